/-! answers -/
set_option maxRecDepth 100000
def ansC (H : Hea) (C : Cal) (y m d : Int) : Int := (dayC C (kY H y) (kM H m) 1 + d - 1) % 7
def tenC (H : Hea) (C : Cal) (y m d : Int) : Int := hK H 2 + hL H y / 20000 + hM H m / 20000 + hK H 0 * ((d - 1) / 7) + hK H 1 * ((d - 1) % 7) + (if hasC C (kY H y) 2 29 then hK H 3 else 0)
section
variable {σ : St} {x o : Nat} {A : AS} {g c y m d : Int}
theorem mul_b {a b p q : Int} (h1 : 0 ≤ a) (h2 : a ≤ p) (h3 : 0 ≤ b) (h4 : b ≤ q) : 0 ≤ a * b ∧ a * b ≤ p * q := ⟨Int.mul_nonneg h1 h3, Int.mul_le_mul h2 h4 h3 (by omega)⟩
theorem tenC_b {H : Hea} {C : Cal} (h : heaOK H) (y1 : 1 ≤ y) (y2 : y ≤ 9999) (m1 : 1 ≤ m) (m2 : m ≤ 12) (d1 : 1 ≤ d) (d2 : d ≤ 31) (hr : rch H y m = true) : 0 ≤ tenC H C y m d ∧ tenC H C y m d ≤ 2000000 := by
  rw [rch_t] at hr
  have vy := (h.2.2.1 y y1 y2).1
  have vm := (h.2.2.2.1 m m1 m2).1
  have k := h.2.2.2.2
  have k0 := k 0 (by omega) (by omega)
  have k1 := k 1 (by omega) (by omega)
  have k2 := k 2 (by omega) (by omega)
  have k3 := k 3 (by omega) (by omega)
  have p0 := mul_b k0.1 k0.2 (by omega : 0 ≤ (d - 1) / 7) (by omega : (d - 1) / 7 ≤ 4)
  have p1 := mul_b k1.1 k1.2 (by omega : 0 ≤ (d - 1) % 7) (by omega : (d - 1) % 7 ≤ 6)
  unfold vOK at vy vm
  unfold tenC
  split <;> omega
theorem R_cal (h : RR x o A σ) (c1 : 0 ≤ c) (c2 : c < (aV A 6 0)) : gP σ x 4 c = some (aCa A c) ∧ CalX σ (aCa A c) (aC A c) := ⟨(h.2.2.1.2.1.1 c c1 c2).1, (h.2.2.1.2.1.1 c c1 c2).2.1⟩
theorem R_head (h : RR x o A σ) (g1 : 0 ≤ g) (g2 : g < (aV A 7 0)) : gP σ x 5 g = some (aHa A g) ∧ HeadX σ (aHa A g) (aH A g) ∧ cacOK σ (aHa A g) (aH A g) := ⟨(h.2.2.1.2.2.1.1 g g1 g2).1, (h.2.2.1.2.2.1.1 g g1 g2).2.1, (h.2.2.1.2.2.1.1 g g1 g2).2.2.1⟩
theorem R_x (h : RR x o A σ) : oc σ x 0 := h.2.2.1.1.1
theorem R_o (h : RR x o A σ) : oc σ o 5 := h.2.2.2.1.1
theorem R_v (h : RR x o A σ) {k : Nat} {i : Int} (hk : ¬ (k = 8 ∨ k = 11 ∨ k = 21)) : gI σ x k i = aV A k i := h.2.2.1.1.2 k i hk
theorem R_n (h : RR x o A σ) : (0 ≤ (aV A 6 0) ∧ (aV A 6 0) ≤ 6) ∧ (0 ≤ (aV A 7 0) ∧ (aV A 7 0) ≤ 8) ∧ (0 ≤ (aV A 13 0) ∧ (aV A 13 0) ≤ 60) ∧ (0 ≤ (aV A 20 0) ∧ (aV A 20 0) ≤ 8) ∧ (0 ≤ (aV A 25 0) ∧ (aV A 25 0) ≤ 30) := ⟨h.2.1.1.1, h.2.1.1.2.1, h.2.1.1.2.2.1, h.2.1.1.2.2.2.1, h.2.1.1.2.2.2.2.1⟩
theorem R_hO (h : RR x o A σ) (g1 : 0 ≤ g) (g2 : g < (aV A 7 0)) : heaOK (aH A g) := (R_head h g1 g2).2.1.2.2.2.2.2.2.2.2
theorem R_cO (h : RR x o A σ) (c1 : 0 ≤ c) (c2 : c < (aV A 6 0)) : calOK (aC A c) := (R_cal h c1 c2).2.2.2.2
theorem R_known (h : RR x o A σ) (g1 : 0 ≤ g) (g2 : g < (aV A 7 0)) (y1 : 1 ≤ y) (y2 : y ≤ 9999) (hf : hL (aH A g) y < 1000000000000) : T (f_X5_knownYear σ (aHa A g) y) (fun r => r.1 = kY (aH A g) y ∧ RR x o A r.2) := by
  obtain ⟨h1, h2, h3⟩ := R_head h g1 g2
  refine T_mono (X5_knownYear h2 h3 y1 y2 hf) (fun r ⟨a, b⟩ => ⟨a, ?_⟩)
  rcases b with e | e
  · rw [e]; exact h
  · rw [e]; exact RR_cac h g1 g2 y1 y2 hf
theorem X1_hasWay (h : RR x o A σ) (g1 : 0 ≤ g) (g2 : g < (aV A 7 0)) (c1 : 0 ≤ c) (c2 : c < (aV A 6 0)) (y1 : 1 ≤ y) (y2 : y ≤ 9999) (m1 : 1 ≤ m) (m2 : m ≤ 12) : T (f_X1_hasWay σ x (aHa A g) (aCa A c) y m) (fun r => r.1 = bI (goC (aH A g) (aC A c) y m) ∧ RR x o A r.2) := by
  obtain ⟨h1, h2, h3⟩ := R_head h g1 g2
  have hO := R_hO h g1 g2
  have bb := bI_b (rch (aH A g) y m)
  unfold f_X1_hasWay
  rw [cO_t (R_x h), cO_t h2.1, X5_hasRows h2 y1 y2 m1 m2]
  simp only [T_bind, T_some, T_cEq, T_bd2]
  refine ⟨by omega, fun q => ?_, fun q => ?_⟩
  · rw [bI_0] at q
    exact ⟨by unfold goC; rw [q]; rfl, h⟩
  · rw [bI_n] at q
    have r := rch_t.mp q
    have kyb := kY_b hO y1 y2 r.1
    have kmb := kM_b hO m1 m2 r.2
    refine T_mono (R_known h g1 g2 y1 y2 r.1) (fun w ⟨e, h'⟩ => ?_)
    obtain ⟨h1', h2', h3'⟩ := R_head h' g1 g2
    have hC := (R_cal h' c1 c2).2
    rw [e]
    have b2 := bI_b (hasC (aC A c) (kY (aH A g) y) (kM (aH A g) m) 1)
    simp only [T_some, T_none, T_ck, T_cLt, T_cEq, T_jLt, T_jEq, T_bind, T_bd2, T_wS, T_cO, T_nnS, T_cNullN, T_cNullS, T_bT1, T_bT2, T_ex, T_ite, T_dC, Sum.elim_inl, Sum.elim_inr, X5_knownMonth h2' m1 m2 r.2, X2_has hC (by omega : inR (kY (aH A g) y)) (by omega : inR (kM (aH A g) m)) (by omega : inR 1)]
    refine ⟨h2'.1, hC.1, by omega, fun z => ⟨?_, h'⟩, fun z => ⟨?_, h'⟩⟩
    · rw [bI_0] at z; unfold goC; rw [q, z]; rfl
    · rw [bI_n] at z; unfold goC; rw [q, z]; rfl
theorem goC_t {H : Hea} {C : Cal} (h : goC H C y m = true) : rch H y m = true ∧ hasC C (kY H y) (kM H m) 1 = true := by
  unfold goC at h
  exact (Bool.and_eq_true_iff).mp h
theorem wk_eq {D : Int} (h0 : 0 ≤ D) (d1 : 1 ≤ d) : Int.tmod (Int.tmod D 7 + d - 1) 7 = (D + d - 1) % 7 := by
  rw [Int.tmod_eq_emod_of_nonneg h0, Int.tmod_eq_emod_of_nonneg (by omega)]
  omega
theorem X1_answerOf (h : RR x o A σ) (g1 : 0 ≤ g) (g2 : g < (aV A 7 0)) (c1 : 0 ≤ c) (c2 : c < (aV A 6 0)) (y1 : 1 ≤ y) (y2 : y ≤ 9999) (m1 : 1 ≤ m) (m2 : m ≤ 12) (d1 : 1 ≤ d) (d2 : d ≤ 31) (hg : goC (aH A g) (aC A c) y m = true) : T (f_X1_answerOf σ (aHa A g) (aCa A c) y m d) (fun r => r.1 = ansC (aH A g) (aC A c) y m d ∧ RR x o A r.2) := by
  obtain ⟨q, hh⟩ := goC_t hg
  have r := rch_t.mp q
  obtain ⟨h1, h2, h3⟩ := R_head h g1 g2
  unfold f_X1_answerOf
  rw [cO_t h2.1]
  simp only [T_bd2]
  refine T_mono (R_known h g1 g2 y1 y2 r.1) (fun w ⟨e, h'⟩ => ?_)
  obtain ⟨h1', h2', h3'⟩ := R_head h' g1 g2
  have hC := (R_cal h' c1 c2).2
  have db := dayC_b hC.2.2.2 (kY (aH A g) y) (kM (aH A g) m) 1
  rw [e]
  simp only [T_some, T_none, T_ck, T_cLt, T_cEq, T_jLt, T_jEq, T_bind, T_bd2, T_wS, T_cO, T_nnS, T_cNullN, T_cNullS, T_bT1, T_bT2, T_ex, T_ite, T_dC, Sum.elim_inl, Sum.elim_inr, X5_knownMonth h2' m1 m2 r.2, X2_week hC hh]
  have t1 := Int.tmod_lt_of_pos (dayC (aC A c) (kY (aH A g) y) (kM (aH A g) m) 1) (b := 7) (by omega)
  have t2 := Int.tmod_nonneg 7 db.1
  exact ⟨h2'.1, hC.1, by omega, wk_eq db.1 d1, h'⟩
theorem X1_tenthsOf (h : RR x o A σ) (g1 : 0 ≤ g) (g2 : g < (aV A 7 0)) (c1 : 0 ≤ c) (c2 : c < (aV A 6 0)) (y1 : 1 ≤ y) (y2 : y ≤ 9999) (m1 : 1 ≤ m) (m2 : m ≤ 12) (d1 : 1 ≤ d) (d2 : d ≤ 31) (q : rch (aH A g) y m = true) : T (f_X1_tenthsOf σ (aHa A g) (aCa A c) y m d) (fun r => r.1 = tenC (aH A g) (aC A c) y m d ∧ RR x o A r.2) := by
  have r := rch_t.mp q
  obtain ⟨h1, h2, h3⟩ := R_head h g1 g2
  have hO := R_hO h g1 g2
  have vy := v_L hO y1 y2
  have vm := v_M hO m1 m2
  obtain ⟨b0, _, _, _, _, b5, b6, b7, b8⟩ := h2
  have kyb := kY_b hO y1 y2 r.1
  unfold f_X1_tenthsOf
  rw [cO_t b0, b5 y y1 y2, b6 m m1 m2, b7 0 (by omega) (by omega), b7 1 (by omega) (by omega), b7 2 (by omega) (by omega)]
  rw [v_c (hO.2.2.1 y y1 y2).1, v_c (hO.2.2.2.1 m m1 m2).1, Int.tdiv_eq_ediv_of_nonneg (by omega : 0 ≤ d - 1), Int.tmod_eq_emod_of_nonneg (by omega : 0 ≤ d - 1)]
  simp only [T_ck, T_bd2]
  refine ⟨by omega, by omega, by omega, by omega, by omega, by omega, by omega, by omega, by omega, ?_⟩
  refine T_mono (R_known h g1 g2 y1 y2 r.1) (fun w ⟨e, h'⟩ => ?_)
  obtain ⟨h1', h2', h3'⟩ := R_head h' g1 g2
  have hC := (R_cal h' c1 c2).2
  rw [e]
  have b2 := bI_b (hasC (aC A c) (kY (aH A g) y) 2 29)
  simp only [T_some, T_none, T_ck, T_cLt, T_cEq, T_jLt, T_jEq, T_bind, T_bd2, T_wS, T_cO, T_nnS, T_cNullN, T_cNullS, T_bT1, T_bT2, T_ex, T_ite, T_dC, Sum.elim_inl, Sum.elim_inr, X2_has hC (by omega : inR (kY (aH A g) y)) (by omega : inR 2) (by omega : inR 29), h2'.2.2.2.2.2.2.2.1 3 (by omega) (by omega)]
  unfold tenC
  refine ⟨hC.1, by omega, fun z => ⟨?_, h'⟩, fun z => ⟨h2'.1, by omega, ?_, h'⟩⟩
  · rw [bI_0] at z; rw [z]; rfl
  · rw [bI_n] at z; rw [if_pos z]
/-- what an answer writes -/
def anW (o : Nat) : Nat → Nat → Int → Prop := fun a k _ => a = o ∧ (36 ≤ k ∧ k ≤ 41)
theorem anW_sc : ∀ a k i, anW o a k i → scW o a k i := fun a k i q => ⟨q.1, by have := q.2; omega⟩
theorem X6_answerW (h : RR x o A σ) (g1 : 0 ≤ g) (g2 : g < (aV A 7 0)) (c1 : 0 ≤ c) (c2 : c < (aV A 6 0)) (y1 : 1 ≤ y) (y2 : y ≤ 9999) (m1 : 1 ≤ m) (m2 : m ≤ 12) (d1 : 1 ≤ d) (d2 : d ≤ 31) : T (f_X6_answer σ o g c y m d) (fun r => r.1 = bI (goC (aH A g) (aC A c) y m) ∧ Fr (anW o) σ r.2 ∧ (goC (aH A g) (aC A c) y m = true → gI r.2 o 40 0 = ansC (aH A g) (aC A c) y m d ∧ gI r.2 o 41 0 = tenC (aH A g) (aC A c) y m d) ∧ (rch (aH A g) y m = true → rowsM r.2 o (aH A g) y m)) := by
  have n := R_n h
  have hO := R_hO h g1 g2
  have hm := h.2.2.2
  have gow : ∀ a k i, goW o a k i → anW o a k i := fun a k i q => ⟨q.1, by have := q.2; omega⟩
  unfold f_X6_answer
  rw [cO_t (R_o h)]
  simp only [T_bd2]
  refine T_mono (X6_goes (R_o h) hm.1.2.2.1 ⟨c1, c2⟩ n.1.2 (hm.2.2.1 c c1 c2) (by omega) (hm.2.2.2.1 g g1 g2).1 y1 y2 m1 m2) (fun w ⟨e1, f1, rows⟩ => ?_)
  obtain ⟨w1, σ1⟩ := w
  dsimp only at e1 f1 rows ⊢
  have f1a := Fr_m f1 gow
  have f1' := Fr_m f1a anW_sc
  have h1 := RR_sc h f1'
  have hm1 := h1.2.2.2
  rw [e1]
  have bb := bI_b (goC (aH A g) (aC A c) y m)
  simp only [T_cEq]
  refine ⟨by omega, fun q => ?_, fun q => ?_⟩
  · rw [bI_0] at q
    simp only [T_some, T_none, T_ck, T_cLt, T_cEq, T_jLt, T_jEq, T_bind, T_bd2, T_wS, T_cO, T_nnS, T_cNullN, T_cNullS, T_bT1, T_bT2, T_ex, T_ite, T_dC, Sum.elim_inl, Sum.elim_inr]
    exact ⟨by rw [q]; rfl, f1a, fun z => (by rw [q] at z; cases z), rows⟩
  · rw [bI_n] at q
    obtain ⟨qr, qh⟩ := goC_t q
    have r := rch_t.mp qr
    obtain ⟨⟨e38, r36⟩, e39, r37⟩ := rows qr
    have vy := (hO.2.2.1 y y1 y2).1
    have vm := (hO.2.2.2.1 m m1 m2).1
    have m11 := (hO.2.2.2.1 m m1 m2).2.1 r.2
    have ty := tr_b vy
    have tmm := tr_b vm
    have cy := tr_c vy r.1
    have cm := tr_c vm r.2
    have vyb := vy
    have vmb := vm
    unfold vOK at vyb vmb
    have kyb := kY_b hO y1 y2 r.1
    have kmb := kM_b hO m1 m2 r.2
    have ky : gI σ1 o 36 (gI σ1 o 38 0 - 1) = kY (aH A g) y := by
      rw [e38, show hL (aH A g) y % 20000 + 1 - 1 = ((hL (aH A g) y % 20000).toNat : Nat) by omega, r36 _ (by omega)]; rfl
    have km : gI σ1 o 37 (gI σ1 o 39 0 - 1) = kM (aH A g) m := by
      rw [e39, show hM (aH A g) m % 20000 + 1 - 1 = ((hM (aH A g) m % 20000).toNat : Nat) by omega, r37 _ (by omega)]; rfl
    have cm1 := hm1.2.2.1 c c1 c2
    have db := dayC_b cm1.2.2.2 (kY (aH A g) y) (kM (aH A g) m) 1
    rw [ky, km]
    simp only [T_cO, T_ck, T_bind, T_wS, T_some, X6_dayOf (R_o h1) hm1.1.2.2.1 ⟨c1, c2⟩ n.1.2 cm1 qh]
    refine ⟨R_o h1, by omega, by omega, by omega, ?_⟩
    rw [Int.tmod_eq_emod_of_nonneg (by omega : 0 ≤ dayC (aC A c) (kY (aH A g) y) (kM (aH A g) m) 1 + d - 1)]
    generalize hσ : sI σ1 o 40 0 ((dayC (aC A c) (kY (aH A g) y) (kM (aH A g) m) 1 + d - 1) % 7) = σ2
    have f2 : Fr (anW o) σ1 σ2 := by rw [← hσ]; exact Fr_sI ⟨rfl, by omega⟩
    have h2 := RR_sc h1 (Fr_m f2 anW_sc)
    have hm2 := h2.2.2.2
    have cm2 := hm2.2.2.1 c c1 c2
    obtain ⟨⟨b0, b9, _, _, _, _, b5, b6, b7, b8⟩, _⟩ := hm2.2.2.2.1 g g1 g2
    have b70 : gI σ2 o 26 (4 * g) = hK (aH A g) 0 := by have := b7 0 (by omega) (by omega); rw [show 4 * g + 0 = 4 * g by omega] at this; exact this
    rw [b5 y y1 y2, b6 m m1 m2, b70, b7 1 (by omega) (by omega), b7 2 (by omega) (by omega), cy, cm, Int.tdiv_eq_ediv_of_nonneg (by omega : 0 ≤ d - 1), Int.tmod_eq_emod_of_nonneg (by omega : 0 ≤ d - 1)]
    have b2 := bI_b (hasC (aC A c) (kY (aH A g) y) 2 29)
    simp only [T_some, T_none, T_ck, T_cLt, T_cEq, T_jLt, T_jEq, T_bind, T_bd2, T_wS, T_cO, T_nnS, T_cNullN, T_cNullS, T_bT1, T_bT2, T_ex, T_ite, T_dC, Sum.elim_inl, Sum.elim_inr, X6_isDate (R_o h2) hm2.1.2.2.1 ⟨c1, c2⟩ n.1.2 cm2 (by omega : inR (kY (aH A g) y)) (by omega : inR 2) (by omega : inR 29), f_X6_answer_j171, b7 3 (by omega) (by omega)]
    refine ⟨by omega, by omega, by omega, by omega, by omega, by omega, by omega, by omega, by omega, by omega, fun z => ?_, fun z => ?_⟩
    · rw [bI_0] at z
      refine ⟨R_o h2, by rw [q]; rfl, Fr_t f1a (Fr_t f2 (Fr_sI ⟨rfl, by omega⟩)), fun _ => ⟨?_, ?_⟩, fun _ => ?_⟩
      · rw [← hσ]; simp only [gI_sI, gI_sJ, gI_sP, gI_cpI, gJ_sI, gJ_sJ, gJ_sP, gJ_cpI, gP_sI, gP_sJ, gP_sP, gP_cpI, cL_sI, cL_sJ, cL_sP, cL_cpI, aR_sI, aR_sJ, aR_sP, aR_cpI, nX_sI, nX_sJ, nX_sP, nX_cpI, oc_sIe, oc_sJe, oc_sPe, oc_cpIe]; simp; rfl
      · simp only [gI_sI, gI_sJ, gI_sP, gI_cpI, gJ_sI, gJ_sJ, gJ_sP, gJ_cpI, gP_sI, gP_sJ, gP_sP, gP_cpI, cL_sI, cL_sJ, cL_sP, cL_cpI, aR_sI, aR_sJ, aR_sP, aR_cpI, nX_sI, nX_sJ, nX_sP, nX_cpI, oc_sIe, oc_sJe, oc_sPe, oc_cpIe]; simp
        unfold tenC; rw [z]; simp; omega
      · rw [← hσ]
        refine ⟨⟨by simp only [gI_sI, gI_sJ, gI_sP, gI_cpI, gJ_sI, gJ_sJ, gJ_sP, gJ_cpI, gP_sI, gP_sJ, gP_sP, gP_cpI, cL_sI, cL_sJ, cL_sP, cL_cpI, aR_sI, aR_sJ, aR_sP, aR_cpI, nX_sI, nX_sJ, nX_sP, nX_cpI, oc_sIe, oc_sJe, oc_sPe, oc_cpIe]; simp [e38], fun i hi => by simp only [gI_sI, gI_sJ, gI_sP, gI_cpI, gJ_sI, gJ_sJ, gJ_sP, gJ_cpI, gP_sI, gP_sJ, gP_sP, gP_cpI, cL_sI, cL_sJ, cL_sP, cL_cpI, aR_sI, aR_sJ, aR_sP, aR_cpI, nX_sI, nX_sJ, nX_sP, nX_cpI, oc_sIe, oc_sJe, oc_sPe, oc_cpIe]; simp [r36 i hi]⟩, by simp only [gI_sI, gI_sJ, gI_sP, gI_cpI, gJ_sI, gJ_sJ, gJ_sP, gJ_cpI, gP_sI, gP_sJ, gP_sP, gP_cpI, cL_sI, cL_sJ, cL_sP, cL_cpI, aR_sI, aR_sJ, aR_sP, aR_cpI, nX_sI, nX_sJ, nX_sP, nX_cpI, oc_sIe, oc_sJe, oc_sPe, oc_cpIe]; simp [e39], fun i hi => by simp only [gI_sI, gI_sJ, gI_sP, gI_cpI, gJ_sI, gJ_sJ, gJ_sP, gJ_cpI, gP_sI, gP_sJ, gP_sP, gP_cpI, cL_sI, cL_sJ, cL_sP, cL_cpI, aR_sI, aR_sJ, aR_sP, aR_cpI, nX_sI, nX_sJ, nX_sP, nX_cpI, oc_sIe, oc_sJe, oc_sPe, oc_cpIe]; simp [r37 i hi]⟩
    · rw [bI_n] at z
      refine ⟨by omega, R_o h2, by rw [q]; rfl, Fr_t f1a (Fr_t f2 (Fr_sI ⟨rfl, by omega⟩)), fun _ => ⟨?_, ?_⟩, fun _ => ?_⟩
      · rw [← hσ]; simp only [gI_sI, gI_sJ, gI_sP, gI_cpI, gJ_sI, gJ_sJ, gJ_sP, gJ_cpI, gP_sI, gP_sJ, gP_sP, gP_cpI, cL_sI, cL_sJ, cL_sP, cL_cpI, aR_sI, aR_sJ, aR_sP, aR_cpI, nX_sI, nX_sJ, nX_sP, nX_cpI, oc_sIe, oc_sJe, oc_sPe, oc_cpIe]; simp; rfl
      · simp only [gI_sI, gI_sJ, gI_sP, gI_cpI, gJ_sI, gJ_sJ, gJ_sP, gJ_cpI, gP_sI, gP_sJ, gP_sP, gP_cpI, cL_sI, cL_sJ, cL_sP, cL_cpI, aR_sI, aR_sJ, aR_sP, aR_cpI, nX_sI, nX_sJ, nX_sP, nX_cpI, oc_sIe, oc_sJe, oc_sPe, oc_cpIe]; simp
        unfold tenC; rw [z]; simp; omega
      · rw [← hσ]
        refine ⟨⟨by simp only [gI_sI, gI_sJ, gI_sP, gI_cpI, gJ_sI, gJ_sJ, gJ_sP, gJ_cpI, gP_sI, gP_sJ, gP_sP, gP_cpI, cL_sI, cL_sJ, cL_sP, cL_cpI, aR_sI, aR_sJ, aR_sP, aR_cpI, nX_sI, nX_sJ, nX_sP, nX_cpI, oc_sIe, oc_sJe, oc_sPe, oc_cpIe]; simp [e38], fun i hi => by simp only [gI_sI, gI_sJ, gI_sP, gI_cpI, gJ_sI, gJ_sJ, gJ_sP, gJ_cpI, gP_sI, gP_sJ, gP_sP, gP_cpI, cL_sI, cL_sJ, cL_sP, cL_cpI, aR_sI, aR_sJ, aR_sP, aR_cpI, nX_sI, nX_sJ, nX_sP, nX_cpI, oc_sIe, oc_sJe, oc_sPe, oc_cpIe]; simp [r36 i hi]⟩, by simp only [gI_sI, gI_sJ, gI_sP, gI_cpI, gJ_sI, gJ_sJ, gJ_sP, gJ_cpI, gP_sI, gP_sJ, gP_sP, gP_cpI, cL_sI, cL_sJ, cL_sP, cL_cpI, aR_sI, aR_sJ, aR_sP, aR_cpI, nX_sI, nX_sJ, nX_sP, nX_cpI, oc_sIe, oc_sJe, oc_sPe, oc_cpIe]; simp [e39], fun i hi => by simp only [gI_sI, gI_sJ, gI_sP, gI_cpI, gJ_sI, gJ_sJ, gJ_sP, gJ_cpI, gP_sI, gP_sJ, gP_sP, gP_cpI, cL_sI, cL_sJ, cL_sP, cL_cpI, aR_sI, aR_sJ, aR_sP, aR_cpI, nX_sI, nX_sJ, nX_sP, nX_cpI, oc_sIe, oc_sJe, oc_sPe, oc_cpIe]; simp [r37 i hi]⟩
theorem X6_answer (h : RR x o A σ) (g1 : 0 ≤ g) (g2 : g < (aV A 7 0)) (c1 : 0 ≤ c) (c2 : c < (aV A 6 0)) (y1 : 1 ≤ y) (y2 : y ≤ 9999) (m1 : 1 ≤ m) (m2 : m ≤ 12) (d1 : 1 ≤ d) (d2 : d ≤ 31) : T (f_X6_answer σ o g c y m d) (fun r => r.1 = bI (goC (aH A g) (aC A c) y m) ∧ Fr (scW o) σ r.2 ∧ (goC (aH A g) (aC A c) y m = true → gI r.2 o 40 0 = ansC (aH A g) (aC A c) y m d ∧ gI r.2 o 41 0 = tenC (aH A g) (aC A c) y m d) ∧ (rch (aH A g) y m = true → rowsM r.2 o (aH A g) y m)) :=
  T_mono (X6_answerW h g1 g2 c1 c2 y1 y2 m1 m2 d1 d2) (fun _ ⟨a, b, e⟩ => ⟨a, Fr_m b anW_sc, e⟩)
end
