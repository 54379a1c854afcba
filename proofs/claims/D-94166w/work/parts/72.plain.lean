/-! born, keep, back -/
set_option maxRecDepth 100000
section
variable {σ σ1 σ2 : St} {x o a b : Nat} {A A' : AS} {g c y m d v k s p w i : Int} {vv : Nat → Int → Int} {b' : Int × Int × Int}
theorem AOK_s (h : AOK A) (vo : ∀ j i, ¬ (j = 13 ∨ j = 14 ∨ j = 15 ∨ j = 25 ∨ j = 26 ∨ j = 27) → vv j i = aV A j i) (n13 : 0 ≤ vv 13 0 ∧ vv 13 0 ≤ aV A 13 0) (n25 : 0 ≤ vv 25 0 ∧ vv 25 0 ≤ aV A 25 0) (n26 : 0 ≤ vv 26 0 ∧ vv 26 0 ≤ vv 13 0) (n27 : 0 ≤ vv 27 0 ∧ vv 27 0 ≤ vv 25 0) (hb : vv 14 0 = -1 ∨ (dateOK A (vv 15 0) b'.1 b'.2.1 b'.2.2 ∧ vv 14 0 = dayC (aC A (vv 15 0)) b'.1 b'.2.1 b'.2.2)) (h15 : inR (vv 15 0)) : AOK (mkA A vv (aQ A) (aAa A) b') := by
  obtain ⟨⟨a1, a2, a3, a4, a5, a6, a7, a8, a9⟩, b1, b2, b3, b4, b5, b6, b7, b8, b9⟩ := h
  have o6 := vo 6 0 (by omega)
  have cc : ∀ (c1 y1 m1 d1 : Int), dateOK A c1 y1 m1 d1 → dateOK (mkA A vv (aQ A) (aAa A) b') c1 y1 m1 d1 := fun c1 y1 m1 d1 q => ⟨⟨q.1.1, by show c1 < vv 6 0; rw [o6]; exact q.1.2⟩, q.2⟩
  refine ⟨⟨?_, ?_, ?_, ?_, ?_, ?_, ?_, n26, n27⟩, fun i i1 i2 => ?_, fun p p1 p2 => ?_, fun k k1 k2 => ?_, fun j k j1 j2 j3 => ?_, fun k k1 k2 => ?_, ?_, fun i i1 i2 => ?_, fun k k1 k2 => ?_, h15⟩
  · show 0 ≤ vv 6 0 ∧ vv 6 0 ≤ 6; rw [o6]; exact a1
  · show 0 ≤ vv 7 0 ∧ vv 7 0 ≤ 8; rw [vo 7 0 (by omega)]; exact a2
  · show 0 ≤ vv 13 0 ∧ vv 13 0 ≤ 60; omega
  · show 0 ≤ vv 20 0 ∧ vv 20 0 ≤ 8; rw [vo 20 0 (by omega)]; exact a4
  · show 0 ≤ vv 25 0 ∧ vv 25 0 ≤ 30; omega
  · show 0 ≤ vv 1 0 ∧ vv 1 0 ≤ 160; rw [vo 1 0 (by omega)]; exact a6
  · show 0 ≤ vv 10 0 ∧ vv 10 0 ≤ 160; rw [vo 10 0 (by omega)]; exact a7
  · show -128 ≤ vv 0 i ∧ vv 0 i ≤ 127; rw [vo 0 i (by omega)]; exact b1 i i1 i2
  · have p2 : p < vv 20 0 := p2
    rw [vo 20 0 (by omega)] at p2
    show dateOK _ (vv 16 p) (vv 17 p) (vv 18 p) (vv 19 p)
    rw [vo 16 p (by omega), vo 17 p (by omega), vo 18 p (by omega), vo 19 p (by omega)]
    exact cc _ _ _ _ (b2 p p1 p2)
  · have k2 : k < vv 13 0 := k2
    exact ⟨cc _ _ _ _ (b3 k k1 (by omega)).1, (b3 k k1 (by omega)).2⟩
  · have j3 : k < vv 13 0 := j3
    exact b4 j k j1 j2 (by omega)
  · have k2 : k < vv 25 0 := k2
    show (0 ≤ vv 23 k ∧ vv 23 k ≤ 19000000) ∧ (0 ≤ vv 24 k ∧ vv 24 k ≤ 3)
    rw [vo 23 k (by omega), vo 24 k (by omega)]; exact b5 k k1 (by omega)
  · show vv 14 0 = -1 ∨ (dateOK (mkA A vv (aQ A) (aAa A) b') (vv 15 0) b'.1 b'.2.1 b'.2.2 ∧ vv 14 0 = dayC (aC A (vv 15 0)) b'.1 b'.2.1 b'.2.2)
    rcases hb with q | q
    · exact Or.inl q
    · exact Or.inr ⟨cc _ _ _ _ q.1, q.2⟩
  · have i2 : i < 3 * vv 10 0 := i2
    rw [vo 10 0 (by omega)] at i2
    show inR (vv 9 i); rw [vo 9 i (by omega)]; exact b7 i i1 i2
  · have k2 : k < vv 7 0 := k2
    rw [vo 7 0 (by omega)] at k2
    exact b8 k k1 k2
theorem RMv_s (hM : RMv o A σ) (eo : ∀ j i, ¬ (j = 49 ∨ (56 ≤ j ∧ j ≤ 60) ∨ j = 63 ∨ j = 64 ∨ j = 65) → gI σ2 o j i = gI σ o j i) (vo : ∀ j i, ¬ (j = 13 ∨ j = 14 ∨ j = 15 ∨ j = 25 ∨ j = 26 ∨ j = 27) → vv j i = aV A j i) (k49 : gI σ2 o 49 0 = vv 13 0) (n13 : vv 13 0 ≤ aV A 13 0) (k63 : gI σ2 o 63 0 = vv 25 0) (n25 : vv 25 0 ≤ aV A 25 0) (k56 : gI σ2 o 56 0 = vv 14 0) (k57 : gI σ2 o 57 0 = vv 15 0) (k64 : gI σ2 o 64 0 = vv 26 0) (k65 : gI σ2 o 65 0 = vv 27 0) (kb : ¬ vv 14 0 = -1 → gI σ2 o 58 0 = b'.1 ∧ gI σ2 o 59 0 = b'.2.1 ∧ gI σ2 o 60 0 = b'.2.2) : RMv o (mkA A vv (aQ A) (aAa A) b') σ2 := by
  obtain ⟨⟨m1, m2, m3, m4, m5, m6, m7, m8, m9⟩, m10, m11, m12, m13, m14, m15⟩ := hM
  refine ⟨⟨?_, k49, ?_, k63, k56, k57, k64, k65, ?_⟩, fun i i1 i2 => ?_, fun j j1 j2 => ?_, fun j j1 j2 => ?_, fun j j1 j2 => ?_, kb, fun j j1 j2 => ?_⟩
  · rw [eo 2 0 (by omega)]; show _ = vv 1 0; rw [vo 1 0 (by omega)]; exact m1
  · rw [eo 54 0 (by omega)]; show _ = vv 20 0; rw [vo 20 0 (by omega)]; exact m3
  · rw [eo 69 0 (by omega)]; show _ = vv 10 0; rw [vo 10 0 (by omega)]; exact m9
  · have i2 : i < vv 1 0 := i2
    rw [vo 1 0 (by omega)] at i2
    rw [eo 1 i (by omega)]; show _ = vv 0 i % 256; rw [vo 0 i (by omega)]; exact m10 i i1 i2
  · have j2 : j < vv 13 0 := j2
    simp only [eo 42 j (by omega), eo 43 j (by omega), eo 44 j (by omega), eo 45 j (by omega), eo 46 j (by omega), eo 47 j (by omega), eo 48 j (by omega)]
    exact m11 j j1 (by omega)
  · have j2 : j < vv 20 0 := j2
    rw [vo 20 0 (by omega)] at j2
    simp only [eo 50 j (by omega), eo 51 j (by omega), eo 52 j (by omega), eo 53 j (by omega)]
    show _ = vv 16 j ∧ _ = vv 17 j ∧ _ = vv 18 j ∧ _ = vv 19 j
    rw [vo 16 j (by omega), vo 17 j (by omega), vo 18 j (by omega), vo 19 j (by omega)]
    exact m12 j j1 j2
  · have j2 : j < vv 25 0 := j2
    simp only [eo 61 j (by omega), eo 62 j (by omega)]
    show _ = vv 23 j ∧ _ = vv 24 j
    rw [vo 23 j (by omega), vo 24 j (by omega)]
    exact m13 j j1 (by omega)
  · have j2 : j < vv 10 0 := j2
    rw [vo 10 0 (by omega)] at j2
    simp only [eo 66 j (by omega), eo 67 j (by omega), eo 68 j (by omega)]
    show _ = vv 9 (3 * j) ∧ (¬ vv 9 (3 * j) = -1 → _ = vv 9 (3 * j + 1) ∧ _ = vv 9 (3 * j + 2)) ∧ _
    rw [vo 9 (3 * j) (by omega), vo 9 (3 * j + 1) (by omega), vo 9 (3 * j + 2) (by omega)]
    exact m15 j j1 j2
theorem O_keep (h : RR x o A σ) : BothT x o (f_X1_keep σ x) (fun σ' => f_X6_keep σ' o) := by
  have n := R_n h
  have hM := RMv_of h.2.2.2
  have ne := x_ne_o h
  unfold BothT f_X1_keep
  rw [cO_t (R_x h), Rv13 h]
  simp only [T_wS, T_some]
  have e1 : gI (sI σ x 26 0 ((aV A 13 0))) x 25 0 = (aV A 25 0) := by rw [gI_sI, if_neg (by omega)]; exact Rv25 h 0
  rw [e1]
  have hvx := hv_up (k0 := 27) (i0 := 0) (w0 := (aV A 25 0)) (hv_up (k0 := 26) (i0 := 0) (w0 := (aV A 13 0)) h.2.2.1.1.2)
  generalize hσ1 : sI (sI σ x 26 0 ((aV A 13 0))) x 27 0 ((aV A 25 0)) = σ1 at hvx ⊢
  have f1 : Fr (fun a _ _ => a = x) σ σ1 := by rw [← hσ1]; exact Fr_t (Fr_sI rfl) (Fr_sI rfl)
  have sO := Fr_sa f1 (b := o) (fun k i q => ne q)
  have gO : gI σ1 o = gI σ o := sO.2.2.1
  have x13 : gI σ1 x 13 0 = (aV A 13 0) := by rw [← hσ1, gI_sI, if_neg (by omega), gI_sI, if_neg (by omega)]; exact Rv13 h 0
  have x25 : gI σ1 x 25 0 = (aV A 25 0) := by rw [← hσ1, gI_sI, if_neg (by omega)]; exact e1
  rw [x13, x25]
  refine ⟨by omega, ?_⟩
  unfold f_X6_keep
  rw [cO_t (sa_oc sO (R_o h)), gO, hM.1.2.1]
  simp only [T_wS, T_some]
  have o63 : gI (sI σ1 o 64 0 ((aV A 13 0))) o 63 0 = (aV A 25 0) := by rw [gI_sI, if_neg (by omega), gO]; exact hM.1.2.2.2.1
  rw [o63]
  generalize hσ2 : sI (sI σ1 o 64 0 ((aV A 13 0))) o 65 0 ((aV A 25 0)) = σ2
  have f2 : Fr (fun a k _ => a = o ∧ (k = 1 ∨ k = 2 ∨ 42 ≤ k)) σ1 σ2 := by rw [← hσ2]; exact Fr_t (Fr_sI ⟨rfl, by omega⟩) (Fr_sI ⟨rfl, by omega⟩)
  have eo : ∀ j i, ¬ (j = 64 ∨ j = 65) → gI σ2 o j i = gI σ o j i := fun j i hj => by rw [← hσ2, gI_sI, if_neg (by omega), gI_sI, if_neg (by omega), gO]
  have k64 : gI σ2 o 64 0 = (aV A 13 0) := by rw [← hσ2, gI_sI, if_neg (by omega), gI_sI, if_pos ⟨rfl, rfl, rfl⟩]
  have k65 : gI σ2 o 65 0 = (aV A 25 0) := by rw [← hσ2, gI_sI, if_pos ⟨rfl, rfl, rfl⟩]
  have k49 : gI σ2 o 49 0 = (aV A 13 0) := by rw [eo 49 0 (by omega)]; exact hM.1.2.1
  have k63 : gI σ2 o 63 0 = (aV A 25 0) := by rw [eo 63 0 (by omega)]; exact hM.1.2.2.2.1
  rw [k49, k63]
  refine ⟨rfl, mkA A (upv (upv (aV A) 26 0 ((aV A 13 0))) 27 0 ((aV A 25 0))) (aQ A) (aAa A) (aBy A, aBm A, aBd A), ?_⟩
  have vo : ∀ j i, ¬ (j = 26 ∨ j = 27) → upv (upv (aV A) 26 0 ((aV A 13 0))) 27 0 ((aV A 25 0)) j i = aV A j i := fun j i hj => by unfold upv; rw [if_neg (by omega), if_neg (by omega)]
  have v26 : upv (upv (aV A) 26 0 ((aV A 13 0))) 27 0 ((aV A 25 0)) 26 0 = (aV A 13 0) := by simp [upv]
  have v27 : upv (upv (aV A) 26 0 ((aV A 13 0))) 27 0 ((aV A 25 0)) 27 0 = (aV A 25 0) := by simp [upv]
  generalize upv (upv (aV A) 26 0 ((aV A 13 0))) 27 0 ((aV A 25 0)) = vv at hvx vo v26 v27 ⊢
  have o13 := vo 13 0 (by omega)
  have o25 := vo 25 0 (by omega)
  have o14 := vo 14 0 (by omega)
  have o15 := vo 15 0 (by omega)
  refine RR_upd h f1 f2 (vo 6 0 (by omega)) (vo 7 0 (by omega)) hvx (XQ_k h f1 (by omega)) (AOK_s h.2.1 (fun j i hj => vo j i (by omega)) (by omega) (by omega) (by omega) (by omega) (by rw [o14, o15]; exact h.2.1.2.2.2.2.2.2.1) (by rw [o15]; exact h.2.1.2.2.2.2.2.2.2.2.2)) (RMv_s hM (fun j i hj => eo j i (by omega)) (fun j i hj => vo j i (by omega)) (by rw [k49, o13]) (by omega) (by rw [k63, o25]) (by omega) (by rw [o14, eo 56 0 (by omega)]; exact hM.1.2.2.2.2.1) (by rw [o15, eo 57 0 (by omega)]; exact hM.1.2.2.2.2.2.1) (by rw [v26, k64]) (by rw [v27, k65]) (fun q => ?_))
  rw [eo 58 0 (by omega), eo 59 0 (by omega), eo 60 0 (by omega)]
  rw [o14] at q
  exact hM.2.2.2.2.2.1 q
theorem O_back (h : RR x o A σ) : BothT x o (f_X1_back σ x) (fun σ' => f_X6_back σ' o) := by
  have n := R_n h
  have hM := RMv_of h.2.2.2
  have ne := x_ne_o h
  have kk := h.2.1.1.2.2.2.2.2.2.2
  unfold BothT f_X1_back
  rw [cO_t (R_x h), Rv26 h]
  simp only [T_wS, T_some]
  have e1 : gI (sI σ x 13 0 (aV A 26 0)) x 27 0 = aV A 27 0 := by rw [gI_sI, if_neg (by omega)]; exact Rv27 h 0
  rw [e1]
  have hvx := hv_up (k0 := 25) (i0 := 0) (w0 := aV A 27 0) (hv_up (k0 := 13) (i0 := 0) (w0 := aV A 26 0) h.2.2.1.1.2)
  generalize hσ1 : sI (sI σ x 13 0 (aV A 26 0)) x 25 0 (aV A 27 0) = σ1 at hvx ⊢
  have f1 : Fr (fun a _ _ => a = x) σ σ1 := by rw [← hσ1]; exact Fr_t (Fr_sI rfl) (Fr_sI rfl)
  have sO := Fr_sa f1 (b := o) (fun k i q => ne q)
  have gO : gI σ1 o = gI σ o := sO.2.2.1
  have x13 : gI σ1 x 13 0 = aV A 26 0 := by rw [← hσ1, gI_sI, if_neg (by omega), gI_sI, if_pos ⟨rfl, rfl, rfl⟩]
  have x25 : gI σ1 x 25 0 = aV A 27 0 := by rw [← hσ1, gI_sI, if_pos ⟨rfl, rfl, rfl⟩]
  rw [x13, x25]
  refine ⟨by omega, ?_⟩
  unfold f_X6_back
  rw [cO_t (sa_oc sO (R_o h)), gO, hM.1.2.1, hM.1.2.2.2.2.2.2.1, J3_min (by omega) (by omega)]
  simp only [T_wS, T_some, T_bind]
  have mi : min ((aV A 13 0)) (aV A 26 0) = aV A 26 0 := by omega
  rw [mi]
  have o63 : gI (sI σ1 o 49 0 (aV A 26 0)) o 63 0 = (aV A 25 0) := by rw [gI_sI, if_neg (by omega), gO]; exact hM.1.2.2.2.1
  have o65 : gI (sI σ1 o 49 0 (aV A 26 0)) o 65 0 = aV A 27 0 := by rw [gI_sI, if_neg (by omega), gO]; exact hM.1.2.2.2.2.2.2.2.1
  rw [o63, o65, J3_min (by omega) (by omega)]
  have mj : min ((aV A 25 0)) (aV A 27 0) = aV A 27 0 := by omega
  simp only [T_some, mj]
  generalize hσ2 : sI (sI σ1 o 49 0 (aV A 26 0)) o 63 0 (aV A 27 0) = σ2
  have f2 : Fr (fun a k _ => a = o ∧ (k = 1 ∨ k = 2 ∨ 42 ≤ k)) σ1 σ2 := by rw [← hσ2]; exact Fr_t (Fr_sI ⟨rfl, by omega⟩) (Fr_sI ⟨rfl, by omega⟩)
  have eo : ∀ j i, ¬ (j = 49 ∨ j = 63) → gI σ2 o j i = gI σ o j i := fun j i hj => by rw [← hσ2, gI_sI, if_neg (by omega), gI_sI, if_neg (by omega), gO]
  have k49 : gI σ2 o 49 0 = aV A 26 0 := by rw [← hσ2, gI_sI, if_neg (by omega), gI_sI, if_pos ⟨rfl, rfl, rfl⟩]
  have k63 : gI σ2 o 63 0 = aV A 27 0 := by rw [← hσ2, gI_sI, if_pos ⟨rfl, rfl, rfl⟩]
  rw [k49, k63]
  refine ⟨rfl, mkA A (upv (upv (aV A) 13 0 (aV A 26 0)) 25 0 (aV A 27 0)) (aQ A) (aAa A) (aBy A, aBm A, aBd A), ?_⟩
  have vo : ∀ j i, ¬ (j = 13 ∨ j = 25) → upv (upv (aV A) 13 0 (aV A 26 0)) 25 0 (aV A 27 0) j i = aV A j i := fun j i hj => by unfold upv; rw [if_neg (by omega), if_neg (by omega)]
  have o13 : upv (upv (aV A) 13 0 (aV A 26 0)) 25 0 (aV A 27 0) 13 0 = aV A 26 0 := by simp [upv]
  have o25 : upv (upv (aV A) 13 0 (aV A 26 0)) 25 0 (aV A 27 0) 25 0 = aV A 27 0 := by simp [upv]
  generalize upv (upv (aV A) 13 0 (aV A 26 0)) 25 0 (aV A 27 0) = vv at hvx vo o13 o25 ⊢
  have o26 := vo 26 0 (by omega)
  have o27 := vo 27 0 (by omega)
  have o14 := vo 14 0 (by omega)
  have o15 := vo 15 0 (by omega)
  refine RR_upd h f1 f2 (vo 6 0 (by omega)) (vo 7 0 (by omega)) hvx (XQ_k h f1 (by omega)) (AOK_s h.2.1 (fun j i hj => vo j i (by omega)) (by omega) (by omega) (by omega) (by omega) (by rw [o14, o15]; exact h.2.1.2.2.2.2.2.2.1) (by rw [o15]; exact h.2.1.2.2.2.2.2.2.2.2.2)) (RMv_s hM (fun j i hj => eo j i (by omega)) (fun j i hj => vo j i (by omega)) (by rw [k49, o13]) (by omega) (by rw [k63, o25]) (by omega) (by rw [o14, eo 56 0 (by omega)]; exact hM.1.2.2.2.2.1) (by rw [o15, eo 57 0 (by omega)]; exact hM.1.2.2.2.2.2.1) (by rw [o26, eo 64 0 (by omega)]; exact hM.1.2.2.2.2.2.2.1) (by rw [o27, eo 65 0 (by omega)]; exact hM.1.2.2.2.2.2.2.2.1) (fun q => ?_))
  rw [eo 58 0 (by omega), eo 59 0 (by omega), eo 60 0 (by omega)]
  rw [o14] at q
  exact hM.2.2.2.2.2.1 q
theorem O_born (h : RR x o A σ) (hc : inR c) (hy : inR y) (hm : inR m) (hd : inR d) : BothT x o (f_X1_born σ x c y m d) (fun σ' => f_X6_born σ' o c y m d) := by
  have n := R_n h
  have hM := RMv_of h.2.2.2
  have ne := x_ne_o h
  have kk := h.2.1.1.2.2.2.2.2.2.2
  unfold BothT f_X1_born
  rw [cO_t (R_x h)]
  simp only [T_bind, T_some, T_cEq, bI_R, true_and, bI_0, Bool.not_eq_false, X1_isDate h hc hy hm hd]
  refine ⟨fun e => ⟨by omega, ?_⟩, fun e => ?_⟩
  · unfold f_X6_born
    rw [cO_t (R_o h)]
    simp only [T_bind, T_some, T_cEq, bI_R, true_and, bI_0, Bool.not_eq_false, X6_isDat h hc hy hm hd]
    exact ⟨fun _ => ⟨A, h⟩, fun q => by rw [e] at q; cases q⟩
  · obtain ⟨qc, qd⟩ := isD_t.mp e
    have db := dayC_bb h qc (y := y) (m := m) (d := d)
    obtain ⟨p1, p2⟩ := R_cal h qc.1 qc.2
    rw [p1]
    simp only [T_nnS, T_cO, T_bind, X2_day p2 qd, T_some, T_ck, T_wS]
    generalize hD : dayC (aC A c) y m d = D at db
    have hvx := hv_up (k0 := 15) (i0 := 0) (w0 := c) (hv_up (k0 := 14) (i0 := 0) (w0 := D) h.2.2.1.1.2)
    generalize hσ1 : sI (sI σ x 14 0 D) x 15 0 c = σ1 at hvx ⊢
    have f1 : Fr (fun a _ _ => a = x) σ σ1 := by rw [← hσ1]; exact Fr_t (Fr_sI rfl) (Fr_sI rfl)
    have sO := Fr_sa f1 (b := o) (fun k i q => ne q)
    have gO : gI σ1 o = gI σ o := sO.2.2.1
    refine ⟨by omega, p2.1, by omega, ?_⟩
    unfold f_X6_born
    rw [cO_t (sa_oc sO (R_o h))]
    simp only [T_bind, T_some, T_cEq, bI_R, true_and, bI_0, Bool.not_eq_false, isDatM h sO hc hy hm hd, dayOM h sO e, hD, T_wS]
    refine ⟨fun q => (by rw [e] at q; cases q), fun _ => ?_⟩
    generalize hσ2 : sI (sI (sI (sI (sI σ1 o 56 0 D) o 57 0 c) o 58 0 y) o 59 0 m) o 60 0 d = σ2
    have f2 : Fr (fun a k _ => a = o ∧ (k = 1 ∨ k = 2 ∨ 42 ≤ k)) σ1 σ2 := by rw [← hσ2]; exact Fr_t (Fr_sI ⟨rfl, by omega⟩) (Fr_t (Fr_sI ⟨rfl, by omega⟩) (Fr_t (Fr_sI ⟨rfl, by omega⟩) (Fr_t (Fr_sI ⟨rfl, by omega⟩) (Fr_sI ⟨rfl, by omega⟩))))
    have eo : ∀ j i, ¬ (56 ≤ j ∧ j ≤ 60) → gI σ2 o j i = gI σ o j i := fun j i hj => by rw [← hσ2, gI_sI, if_neg (by omega), gI_sI, if_neg (by omega), gI_sI, if_neg (by omega), gI_sI, if_neg (by omega), gI_sI, if_neg (by omega), gO]
    have eb : gI σ2 o 56 0 = D ∧ gI σ2 o 57 0 = c ∧ gI σ2 o 58 0 = y ∧ gI σ2 o 59 0 = m ∧ gI σ2 o 60 0 = d := by rw [← hσ2]; simp [gI_sI]
    refine ⟨mkA A (upv (upv (aV A) 14 0 D) 15 0 c) (aQ A) (aAa A) (y, m, d), ?_⟩
    have vo : ∀ j i, ¬ (j = 14 ∨ j = 15) → upv (upv (aV A) 14 0 D) 15 0 c j i = aV A j i := fun j i hj => by unfold upv; rw [if_neg (by omega), if_neg (by omega)]
    have o14 : upv (upv (aV A) 14 0 D) 15 0 c 14 0 = D := by simp [upv]
    have o15 : upv (upv (aV A) 14 0 D) 15 0 c 15 0 = c := by simp [upv]
    generalize upv (upv (aV A) 14 0 D) 15 0 c = vv at hvx vo o14 o15 ⊢
    have o13 := vo 13 0 (by omega)
    have o25 := vo 25 0 (by omega)
    have o26 := vo 26 0 (by omega)
    have o27 := vo 27 0 (by omega)
    refine RR_upd h f1 f2 (vo 6 0 (by omega)) (vo 7 0 (by omega)) hvx (XQ_k h f1 (by omega)) (AOK_s h.2.1 (fun j i hj => vo j i (by omega)) (by omega) (by omega) (by omega) (by omega) (Or.inr ?_) (by rw [o15]; exact hc)) (RMv_s hM (fun j i hj => eo j i (by omega)) (fun j i hj => vo j i (by omega)) (by rw [o13, eo 49 0 (by omega)]; exact hM.1.2.1) (by omega) (by rw [o25, eo 63 0 (by omega)]; exact hM.1.2.2.2.1) (by omega) (by rw [o14]; exact eb.1) (by rw [o15]; exact eb.2.1) (by rw [o26, eo 64 0 (by omega)]; exact hM.1.2.2.2.2.2.2.1) (by rw [o27, eo 65 0 (by omega)]; exact hM.1.2.2.2.2.2.2.2.1) (fun _ => eb.2.2))
    rw [o14, o15]
    exact ⟨⟨qc, qd⟩, hD.symm⟩
end
