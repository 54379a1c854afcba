/-! known years and months; the model's rows -/
set_option maxRecDepth 100000
section
variable {σ : St} {a o : Nat} {h c n : Int} {H : Hea} {C : Cal} {y m : Int}
theorem X5_knownYear (hx : HeadX σ a H) (hc : cacOK σ a H) (y1 : 1 ≤ y) (y2 : y ≤ 9999) (hf : hL H y < 1000000000000) : T (f_X5_knownYear σ a y) (fun r => r.1 = kY H y ∧ (r.2 = σ ∨ r.2 = sI (sI σ a 17 0 y) a 18 0 (kY H y))) := by
  have hO := hx.2.2.2.2.2.2.2.2
  have vy := (hO.2.2.1 y y1 y2).1
  unfold vOK at vy
  unfold f_X5_knownYear
  rw [cO_t hx.1]
  simp only [T_cEq]
  refine ⟨⟨by unfold cacOK at hc; omega, by omega⟩, fun q => ?_, fun q => ?_⟩
  · simp only [T_some, T_none, T_ck, T_cLt, T_cEq, T_jLt, T_jEq, T_bind, T_bd2, T_wS, T_cO, T_nnS, T_cNullN, T_cNullS, T_bT1, T_bT2, T_ex, T_ite, T_dC, Sum.elim_inl, Sum.elim_inr]
    rcases hc with e | ⟨_, _, e⟩
    · omega
    · rw [e, q]; exact ⟨rfl, Or.inl trivial⟩
  · refine T_lp (fun k => ∃ i : Nat, (i : Int) ≤ hL H y % 20000 ∧ k = rw' (nxY H) y i) (fun k => (hL H k).toNat) ?_ ⟨0, by omega, rfl⟩
    intro k ⟨i, hi, e⟩
    obtain ⟨a1, a2, a3⟩ := rwY hO y1 y2 hf i hi
    rw [← e] at a1 a2 a3
    unfold f_X5_knownYear_b15
    rw [hx.2.2.2.2.2.1 k a1.1 a1.2]
    simp only [T_some, T_none, T_ck, T_cLt, T_cEq, T_jLt, T_jEq, T_bind, T_bd2, T_wS, T_cO, T_nnS, T_cNullN, T_cNullS, T_bT1, T_bT2, T_ex, T_ite, T_dC, Sum.elim_inl, Sum.elim_inr, X5_nextYear hx a1.1 a1.2]
    refine ⟨by omega, by omega, fun c => ?_, fun c => ?_⟩
    · obtain ⟨b1, b2, b3⟩ := nxY_p hO a1.1 a1.2 c a2.2
      exact ⟨⟨i + 1, by omega, by rw [e]; rfl⟩, by omega⟩
    · have z := z_Y hO a1.1 a1.2 a2.2
      have ei : i = (hL H y % 20000).toNat := by omega
      have ek : k = kY H y := by rw [e, ei]; rfl
      rw [ek]; exact ⟨rfl, Or.inr rfl⟩
theorem X5_knownMonth (hx : HeadX σ a H) (m1 : 1 ≤ m) (m2 : m ≤ 12) (hf : hM H m < 1000000000000) : f_X5_knownMonth σ a m = some (kM H m) := by
  have hO := hx.2.2.2.2.2.2.2.2
  have vm := (hO.2.2.2.1 m m1 m2).1
  unfold vOK at vm
  unfold f_X5_knownMonth
  rw [cO_t hx.1]
  refine T_eq.mp (T_lp (fun k => ∃ i : Nat, (i : Int) ≤ hM H m % 20000 ∧ k = rw' (nxM H) m i) (fun k => (hM H k).toNat) ?_ ⟨0, by omega, rfl⟩)
  intro k ⟨i, hi, e⟩
  obtain ⟨a1, a2, a3⟩ := rwM hO m1 m2 hf i hi
  rw [← e] at a1 a2 a3
  unfold f_X5_knownMonth_b2
  rw [hx.2.2.2.2.2.2.1 k a1.1 a1.2]
  simp only [T_some, T_none, T_ck, T_cLt, T_cEq, T_jLt, T_jEq, T_bind, T_bd2, T_wS, T_cO, T_nnS, T_cNullN, T_cNullS, T_bT1, T_bT2, T_ex, T_ite, T_dC, Sum.elim_inl, Sum.elim_inr, X5_nextMonth hx a1.1 a1.2]
  refine ⟨by omega, by omega, fun c => ?_, fun c => ?_⟩
  · obtain ⟨b1, b2, b3⟩ := nxM_p hO a1.1 a1.2 c a2.2
    exact ⟨⟨i + 1, by omega, by rw [e]; rfl⟩, by omega⟩
  · have z := z_M hO a1.1 a1.2 a2.2
    have ei : i = (hM H m % 20000).toNat := by omega
    rw [e, ei]; rfl
def rch (H : Hea) (y m : Int) : Bool := decide (hL H y < 1000000000000 ∧ hM H m < 1000000000000)
theorem rch_t : rch H y m = true ↔ hL H y < 1000000000000 ∧ hM H m < 1000000000000 := by simp [rch]
theorem X5_hasRows (hx : HeadX σ a H) (y1 : 1 ≤ y) (y2 : y ≤ 9999) (m1 : 1 ≤ m) (m2 : m ≤ 12) : f_X5_hasRows σ a y m = some (bI (rch H y m)) := by
  have hO := hx.2.2.2.2.2.2.2.2
  have vy := v_L hO y1 y2
  have vm := v_M hO m1 m2
  unfold f_X5_hasRows
  rw [cO_t hx.1, hx.2.2.2.2.2.1 y y1 y2, hx.2.2.2.2.2.2.1 m m1 m2]
  refine T_eq.mp ?_
  simp only [T_some, T_none, T_ck, T_cLt, T_cEq, T_jLt, T_jEq, T_bind, T_bd2, T_wS, T_cO, T_nnS, T_cNullN, T_cNullS, T_bT1, T_bT2, T_ex, T_ite, T_dC, Sum.elim_inl, Sum.elim_inr]
  unfold bI
  refine ⟨by omega, by omega, fun c => ⟨by omega, by omega, fun c1 => ?_, fun c1 => ?_⟩, fun c => ?_⟩
  · rw [if_pos (rch_t.mpr ⟨c, c1⟩)]
  · rw [if_neg (fun q => c1 (rch_t.mp q).2)]
  · rw [if_neg (fun q => c (rch_t.mp q).1)]
/-- whether there is a way -/
def goC (H : Hea) (C : Cal) (y m : Int) : Bool := rch H y m && hasC C (kY H y) (kM H m) 1
/-- the model's places that are only looked at -/
def scW (o : Nat) : Nat → Nat → Int → Prop := fun a k i => a = o ∧ (k = 0 ∨ k = 3 ∨ k = 4 ∨ k = 29 ∨ (32 ≤ k ∧ k ≤ 41) ∨ k = 55 ∨ k = 70 ∨ (k = 30 ∧ 80008 ≤ i))
def goW (o : Nat) : Nat → Nat → Int → Prop := fun a k _ => a = o ∧ (36 ≤ k ∧ k ≤ 39)
theorem HeadM_fr {W : Nat → Nat → Int → Prop} {σ' : St} (f : Fr W σ σ') (hw : ∀ k i, W o k i → k = 0 ∨ k = 3 ∨ k = 4 ∨ k = 29 ∨ (32 ≤ k ∧ k ≤ 41) ∨ k = 55 ∨ k = 70 ∨ (k = 30 ∧ 80008 ≤ i)) (h8 : h < 8) (hh : HeadM σ o h H) : HeadM σ' o h H := by
  obtain ⟨b0, b9, b1, b2, b3, b4, b5, b6, b7, b8⟩ := hh
  have nI : ∀ k i, (18 ≤ k ∧ k ≤ 26) → gI σ' o k i = gI σ o k i := fun k i hk => Fr_I f (fun q => by have := hw k i q; omega)
  refine ⟨Fr_oc f b0, b9, ?_, fun k k1 k2 => ?_, ?_, fun k k1 k2 => ?_, fun y y1 y2 => ?_, fun m m1 m2 => ?_, fun j j1 j2 => ?_, b8⟩
  · rw [nI _ _ (by omega)]; exact b1
  · rw [nI _ _ (by omega), nI _ _ (by omega)]; exact b2 k k1 k2
  · rw [nI _ _ (by omega)]; exact b3
  · rw [nI _ _ (by omega), nI _ _ (by omega), nI _ _ (by omega)]; exact b4 k k1 k2
  · rw [Fr_J f (fun q => by have := hw _ _ q; omega)]; exact b5 y y1 y2
  · rw [Fr_J f (fun q => by have := hw _ _ q; omega)]; exact b6 m m1 m2
  · rw [nI _ _ (by omega)]; exact b7 j j1 j2
theorem CalM_fr {W : Nat → Nat → Int → Prop} {σ' : St} (f : Fr W σ σ') (hw : ∀ k i, W o k i → ¬ (6 ≤ k ∧ k ≤ 13)) (hh : CalM σ o c C) : CalM σ' o c C := by
  obtain ⟨c7, cs, ck, cO⟩ := hh
  have nI : ∀ k i, (6 ≤ k ∧ k ≤ 13) → gI σ' o k i = gI σ o k i := fun k i hk => Fr_I f (fun q => hw k i q hk)
  refine ⟨c7, ?_, fun k k1 k2 => ?_, cO⟩
  · rw [nI _ _ (by omega)]; exact cs
  · obtain ⟨⟨⟨l1, l2, l3, l4, l5⟩, l6⟩, ⟨y1, m1, d1, v1, g1, o1⟩, ⟨y2, m2, d2, v2, g2, o2⟩, hd0⟩ := ck k k1 k2
    refine ⟨⟨⟨Fr_oc f l1, l2, ?_, fun j j1 j2 => ?_, l5⟩, fun y y1 y2 => ?_⟩, ⟨y1, m1, d1, v1, ?_, o1⟩, ⟨y2, m2, d2, v2, ?_, o2⟩, ?_⟩
    · rw [nI _ _ (by omega)]; exact l3
    · rw [nI _ _ (by omega), nI _ _ (by omega)]; exact l4 j j1 j2
    · rw [nI _ _ (by omega)]; exact l6 y y1 y2
    · rw [nI _ _ (by omega)]; exact g1
    · rw [nI _ _ (by omega)]; exact g2
    · rw [nI _ _ (by omega)]; exact hd0
/-- what the rows hold -/
def rowsM (σ : St) (o : Nat) (H : Hea) (y m : Int) : Prop := (gI σ o 38 0 = hL H y % 20000 + 1 ∧ ∀ i : Nat, (i : Int) ≤ hL H y % 20000 → gI σ o 36 i = rw' (nxY H) y i) ∧ gI σ o 39 0 = hM H m % 20000 + 1 ∧ ∀ i : Nat, (i : Int) ≤ hM H m % 20000 → gI σ o 37 i = rw' (nxM H) m i
theorem X6_goes (ho : oc σ o 5) (hn : gI σ o 14 0 = n) (hc : 0 ≤ c ∧ c < n) (n6 : n ≤ 6) (hC : CalM σ o c C) (h8 : h < 8) (hx : HeadM σ o h H) (y1 : 1 ≤ y) (y2 : y ≤ 9999) (m1 : 1 ≤ m) (m2 : m ≤ 12) : T (f_X6_goes σ o h c y m) (fun r => r.1 = bI (goC H C y m) ∧ Fr (goW o) σ r.2 ∧ (rch H y m = true → rowsM r.2 o H y m)) := by
  have hx' := hx
  obtain ⟨_, h9, _, _, _, _, hl, hlm, _, hO⟩ := hx
  have vy := (hO.2.2.1 y y1 y2).1
  have vm := (hO.2.2.2.1 m m1 m2).1
  have m11 := (hO.2.2.2.1 m m1 m2).2.1
  have ty := tr_b vy
  have tmb := tr_b vm
  have fy := tr_far vy
  have fm := tr_far vm
  have wsc : ∀ k i, goW o o k i → k = 0 ∨ k = 3 ∨ k = 4 ∨ k = 29 ∨ (32 ≤ k ∧ k ≤ 41) ∨ k = 55 ∨ k = 70 ∨ (k = 30 ∧ 80008 ≤ i) := fun k i q => by have := q.2; omega
  have wsc2 : ∀ k i, goW o o k i → ¬ (6 ≤ k ∧ k ≤ 13) := fun k i q => by have := q.2; omega
  unfold f_X6_goes
  rw [cO_t ho, hl y y1 y2, hlm m m1 m2]
  simp only [T_ck, T_jLt, T_wS]
  have nog : rch H y m = false → bI (goC H C y m) = 0 := fun q => by unfold goC; rw [q]; rfl
  refine ⟨by omega, by omega, fun c1 => ⟨by omega, by omega, fun c2 => ?_, fun c2 => ?_⟩, fun c1 => ?_⟩
  · have r1 := fy.mp c1
    have r2 := fm.mp c2
    have hr : rch H y m = true := rch_t.mpr ⟨r1, r2⟩
    have m11 := m11 r2
    unfold vOK at vy vm
    refine T_lp (fun s => ∃ i : Nat, gI s.2 o 38 0 = i ∧ (i : Int) ≤ hL H y % 20000 + 1 ∧ ((s.1 = -1 ∧ (i : Int) = hL H y % 20000 + 1) ∨ ((i : Int) ≤ hL H y % 20000 ∧ s.1 = rw' (nxY H) y i)) ∧ (∀ j : Nat, j < i → gI s.2 o 36 j = rw' (nxY H) y j) ∧ Fr (goW o) σ s.2) (fun s => (hL H y % 20000 + 2 - gI s.2 o 38 0).toNat) ?_ ⟨0, by simp only [gI_sI, gI_sJ, gI_sP, gI_cpI, gJ_sI, gJ_sJ, gJ_sP, gJ_cpI, gP_sI, gP_sJ, gP_sP, gP_cpI, cL_sI, cL_sJ, cL_sP, cL_cpI, aR_sI, aR_sJ, aR_sP, aR_cpI, nX_sI, nX_sJ, nX_sP, nX_cpI, oc_sIe, oc_sJe, oc_sPe, oc_cpIe]; simp, by omega, Or.inr ⟨by omega, rfl⟩, fun j hj => by omega, Fr_sI ⟨rfl, by omega⟩⟩
    intro ⟨k, σ1⟩ ⟨i, e38, hi, hk, hrow, f1⟩
    dsimp only at e38 hi hk hrow f1
    unfold f_X6_goes_b48
    simp only [T_cEq]
    refine ⟨?_, fun q => ?_, fun q => ?_⟩
    · rcases hk with ⟨e, _⟩ | ⟨hi', e⟩
      · omega
      · have := (rwY hO y1 y2 r1 i hi').1; omega
    · have ei : (i : Int) = hL H y % 20000 + 1 := by
        rcases hk with ⟨_, e⟩ | ⟨hi', e⟩
        · exact e
        · have := (rwY hO y1 y2 r1 i hi').1; omega
      simp only [T_ex, T_cO, T_wS]
      refine ⟨Fr_oc f1 ho, ?_⟩
      refine T_lp (fun s => ∃ i2 : Nat, gI s.2 o 39 0 = i2 ∧ (i2 : Int) ≤ hM H m % 20000 + 1 ∧ ((s.1 = -1 ∧ (i2 : Int) = hM H m % 20000 + 1) ∨ ((i2 : Int) ≤ hM H m % 20000 ∧ s.1 = rw' (nxM H) m i2)) ∧ (∀ j : Nat, j < i2 → gI s.2 o 37 j = rw' (nxM H) m j) ∧ Fr (goW o) σ s.2 ∧ gI s.2 o 38 0 = i ∧ ∀ j : Nat, j < i → gI s.2 o 36 j = rw' (nxY H) y j) (fun s => (hM H m % 20000 + 2 - gI s.2 o 39 0).toNat) ?_ ⟨0, by simp only [gI_sI, gI_sJ, gI_sP, gI_cpI, gJ_sI, gJ_sJ, gJ_sP, gJ_cpI, gP_sI, gP_sJ, gP_sP, gP_cpI, cL_sI, cL_sJ, cL_sP, cL_cpI, aR_sI, aR_sJ, aR_sP, aR_cpI, nX_sI, nX_sJ, nX_sP, nX_cpI, oc_sIe, oc_sJe, oc_sPe, oc_cpIe]; simp, by omega, Or.inr ⟨by omega, rfl⟩, fun j hj => by omega, Fr_t f1 (Fr_sI ⟨rfl, by omega⟩), by simp only [gI_sI, gI_sJ, gI_sP, gI_cpI, gJ_sI, gJ_sJ, gJ_sP, gJ_cpI, gP_sI, gP_sJ, gP_sP, gP_cpI, cL_sI, cL_sJ, cL_sP, cL_cpI, aR_sI, aR_sJ, aR_sP, aR_cpI, nX_sI, nX_sJ, nX_sP, nX_cpI, oc_sIe, oc_sJe, oc_sPe, oc_cpIe]; simp [e38], fun j hj => by simp only [gI_sI, gI_sJ, gI_sP, gI_cpI, gJ_sI, gJ_sJ, gJ_sP, gJ_cpI, gP_sI, gP_sJ, gP_sP, gP_cpI, cL_sI, cL_sJ, cL_sP, cL_cpI, aR_sI, aR_sJ, aR_sP, aR_cpI, nX_sI, nX_sJ, nX_sP, nX_cpI, oc_sIe, oc_sJe, oc_sPe, oc_cpIe]; simp [hrow j hj]⟩
      intro ⟨k2, σ2⟩ ⟨i2, e39, hi2, hk2, hrow2, f2, e38', hrow'⟩
      dsimp only at e39 hi2 hk2 hrow2 f2 e38' hrow'
      have hC2 := CalM_fr f2 wsc2 hC
      have hx2 := HeadM_fr f2 wsc h8 hx'
      have hn2 : gI σ2 o 14 0 = n := by rw [Fr_I f2 (by simp [goW])]; exact hn
      unfold f_X6_goes_b118
      simp only [T_cEq]
      refine ⟨?_, fun q2 => ?_, fun q2 => ?_⟩
      · rcases hk2 with ⟨e, _⟩ | ⟨hi', e⟩
        · omega
        · have := (rwM hO m1 m2 r2 i2 hi').1; omega
      · have ei2 : (i2 : Int) = hM H m % 20000 + 1 := by
          rcases hk2 with ⟨_, e⟩ | ⟨hi', e⟩
          · exact e
          · have := (rwM hO m1 m2 r2 i2 hi').1; omega
        have ky : gI σ2 o 36 (gI σ2 o 38 0 - 1) = kY H y := by
          rw [e38', show ((i : Int) - 1) = ((hL H y % 20000).toNat : Nat) by omega, hrow' _ (by omega)]; rfl
        have km : gI σ2 o 37 (gI σ2 o 39 0 - 1) = kM H m := by
          rw [e39, show ((i2 : Int) - 1) = ((hM H m % 20000).toNat : Nat) by omega, hrow2 _ (by omega)]; rfl
        have kyb := kY_b hO y1 y2 r1
        have kmb := kM_b hO m1 m2 r2
        rw [ky, km]
        simp only [T_some, T_none, T_ck, T_cLt, T_cEq, T_jLt, T_jEq, T_bind, T_bd2, T_wS, T_cO, T_nnS, T_cNullN, T_cNullS, T_bT1, T_bT2, T_ex, T_ite, T_dC, Sum.elim_inl, Sum.elim_inr, X6_isDate (Fr_oc f2 ho) hn2 hc n6 hC2 (by omega : inR (kY H y)) (by omega : inR (kM H m)) (by omega : inR 1)]
        refine ⟨Fr_oc f2 ho, by omega, by omega, bI_b _, ?_, f2, fun _ => ⟨⟨by omega, fun j hj => hrow' j (by omega)⟩, by omega, fun j hj => hrow2 j (by omega)⟩⟩
        unfold goC; rw [hr]; rfl
      · obtain ⟨hi', e⟩ : (i2 : Int) ≤ hM H m % 20000 ∧ k2 = rw' (nxM H) m i2 := by
          rcases hk2 with ⟨e, _⟩ | w
          · omega
          · exact w
        obtain ⟨a1, a2, a3⟩ := rwM hO m1 m2 r2 i2 hi'
        rw [← e] at a1 a2 a3
        have vk := (hO.2.2.2.1 k2 a1.1 a1.2).1
        have tz := tr_0 vk
        have tb := tr_b vk
        have f3 : Fr (goW o) σ (sI (sI σ2 o 37 i2 k2) o 39 0 (i2 + 1)) := Fr_t f2 (Fr_t (Fr_sI ⟨rfl, by omega⟩) (Fr_sI ⟨rfl, by omega⟩))
        have hx3 := HeadM_fr f3 wsc h8 hx'
        have l3 : gJ (sI (sI σ2 o 37 i2 k2) o 39 0 (i2 + 1)) o 31 (13 * h + k2) = tr (hM H k2) := hx3.2.2.2.2.2.2.2.1 k2 a1.1 a1.2
        simp only [T_cO, T_ck, T_wS, T_jEq]
        rw [e39]
        have e39b : gI (sI σ2 o 37 i2 k2) o 39 0 = i2 := by simp only [gI_sI, gI_sJ, gI_sP, gI_cpI, gJ_sI, gJ_sJ, gJ_sP, gJ_cpI, gP_sI, gP_sJ, gP_sP, gP_cpI, cL_sI, cL_sJ, cL_sP, cL_cpI, aR_sI, aR_sJ, aR_sP, aR_cpI, nX_sI, nX_sJ, nX_sP, nX_cpI, oc_sIe, oc_sJe, oc_sPe, oc_cpIe]; simp [e39]
        rw [e39b, l3]
        have base : gI (sI (sI σ2 o 37 i2 k2) o 39 0 (i2 + 1)) o 39 0 = ((i2 + 1 : Nat) : Int) ∧ (∀ j : Nat, j < i2 + 1 → gI (sI (sI σ2 o 37 i2 k2) o 39 0 (i2 + 1)) o 37 j = rw' (nxM H) m j) ∧ gI (sI (sI σ2 o 37 i2 k2) o 39 0 (i2 + 1)) o 38 0 = i ∧ ∀ j : Nat, j < i → gI (sI (sI σ2 o 37 i2 k2) o 39 0 (i2 + 1)) o 36 j = rw' (nxY H) y j := by
          refine ⟨by simp only [gI_sI, gI_sJ, gI_sP, gI_cpI, gJ_sI, gJ_sJ, gJ_sP, gJ_cpI, gP_sI, gP_sJ, gP_sP, gP_cpI, cL_sI, cL_sJ, cL_sP, cL_cpI, aR_sI, aR_sJ, aR_sP, aR_cpI, nX_sI, nX_sJ, nX_sP, nX_cpI, oc_sIe, oc_sJe, oc_sPe, oc_cpIe]; simp, fun j hj => ?_, by simp only [gI_sI, gI_sJ, gI_sP, gI_cpI, gJ_sI, gJ_sJ, gJ_sP, gJ_cpI, gP_sI, gP_sJ, gP_sP, gP_cpI, cL_sI, cL_sJ, cL_sP, cL_cpI, aR_sI, aR_sJ, aR_sP, aR_cpI, nX_sI, nX_sJ, nX_sP, nX_cpI, oc_sIe, oc_sJe, oc_sPe, oc_cpIe]; simp [e38'], fun j hj => by simp only [gI_sI, gI_sJ, gI_sP, gI_cpI, gJ_sI, gJ_sJ, gJ_sP, gJ_cpI, gP_sI, gP_sJ, gP_sP, gP_cpI, cL_sI, cL_sJ, cL_sP, cL_cpI, aR_sI, aR_sJ, aR_sP, aR_cpI, nX_sI, nX_sJ, nX_sP, nX_cpI, oc_sIe, oc_sJe, oc_sPe, oc_cpIe]; simp [hrow' j hj]⟩
          simp only [gI_sI, gI_sJ, gI_sP, gI_cpI, gJ_sI, gJ_sJ, gJ_sP, gJ_cpI, gP_sI, gP_sJ, gP_sP, gP_cpI, cL_sI, cL_sJ, cL_sP, cL_cpI, aR_sI, aR_sJ, aR_sP, aR_cpI, nX_sI, nX_sJ, nX_sP, nX_cpI, oc_sIe, oc_sJe, oc_sPe, oc_cpIe]
          by_cases cj : j = i2
          · subst cj; simp [e]
          · rw [if_neg (by omega), if_neg (by omega)]; exact hrow2 j (by omega)
        refine ⟨Fr_oc f2 ho, by omega, by omega, by omega, fun z => ?_, fun z => ?_⟩
        · have z0 := (z_M hO a1.1 a1.2 a2.2).mp (tz.mp z)
          simp only [T_some, T_none, T_ck, T_cLt, T_cEq, T_jLt, T_jEq, T_bind, T_bd2, T_wS, T_cO, T_nnS, T_cNullN, T_cNullS, T_bT1, T_bT2, T_ex, T_ite, T_dC, Sum.elim_inl, Sum.elim_inr]
          refine ⟨⟨i2 + 1, base.1, by omega, Or.inl ⟨trivial, by omega⟩, base.2.1, f3, base.2.2.1, base.2.2.2⟩, ?_⟩
          rw [base.1]; omega
        · have nz : 0 < hM H k2 := by have := tz.mpr; omega
          have p3 := nxM_p hO a1.1 a1.2 nz a2.2
          simp only [T_some, T_none, T_ck, T_cLt, T_cEq, T_jLt, T_jEq, T_bind, T_bd2, T_wS, T_cO, T_nnS, T_cNullN, T_cNullS, T_bT1, T_bT2, T_ex, T_ite, T_dC, Sum.elim_inl, Sum.elim_inr, X6_nextMonth hx3 a1.1 a1.2 a2.2]
          refine ⟨⟨i2 + 1, base.1, by omega, Or.inr ⟨by omega, by rw [e]; rfl⟩, base.2.1, f3, base.2.2.1, base.2.2.2⟩, ?_⟩
          rw [base.1]; omega
    · obtain ⟨hi', e⟩ : (i : Int) ≤ hL H y % 20000 ∧ k = rw' (nxY H) y i := by
        rcases hk with ⟨e, _⟩ | w
        · omega
        · exact w
      obtain ⟨a1, a2, a3⟩ := rwY hO y1 y2 r1 i hi'
      rw [← e] at a1 a2 a3
      have vk := (hO.2.2.1 k a1.1 a1.2).1
      have tz := tr_0 vk
      have tb := tr_b vk
      have f3 : Fr (goW o) σ (sI (sI σ1 o 36 i k) o 38 0 (i + 1)) := Fr_t f1 (Fr_t (Fr_sI ⟨rfl, by omega⟩) (Fr_sI ⟨rfl, by omega⟩))
      have hx3 := HeadM_fr f3 wsc h8 hx'
      have l3 : gJ (sI (sI σ1 o 36 i k) o 38 0 (i + 1)) o 30 (10001 * h + k) = tr (hL H k) := hx3.2.2.2.2.2.2.1 k a1.1 a1.2
      simp only [T_cO, T_ck, T_wS, T_jEq]
      rw [e38]
      have e38b : gI (sI σ1 o 36 i k) o 38 0 = i := by simp only [gI_sI, gI_sJ, gI_sP, gI_cpI, gJ_sI, gJ_sJ, gJ_sP, gJ_cpI, gP_sI, gP_sJ, gP_sP, gP_cpI, cL_sI, cL_sJ, cL_sP, cL_cpI, aR_sI, aR_sJ, aR_sP, aR_cpI, nX_sI, nX_sJ, nX_sP, nX_cpI, oc_sIe, oc_sJe, oc_sPe, oc_cpIe]; simp [e38]
      rw [e38b, l3]
      have base : gI (sI (sI σ1 o 36 i k) o 38 0 (i + 1)) o 38 0 = ((i + 1 : Nat) : Int) ∧ (∀ j : Nat, j < i + 1 → gI (sI (sI σ1 o 36 i k) o 38 0 (i + 1)) o 36 j = rw' (nxY H) y j) := by
        refine ⟨by simp only [gI_sI, gI_sJ, gI_sP, gI_cpI, gJ_sI, gJ_sJ, gJ_sP, gJ_cpI, gP_sI, gP_sJ, gP_sP, gP_cpI, cL_sI, cL_sJ, cL_sP, cL_cpI, aR_sI, aR_sJ, aR_sP, aR_cpI, nX_sI, nX_sJ, nX_sP, nX_cpI, oc_sIe, oc_sJe, oc_sPe, oc_cpIe]; simp, fun j hj => ?_⟩
        simp only [gI_sI, gI_sJ, gI_sP, gI_cpI, gJ_sI, gJ_sJ, gJ_sP, gJ_cpI, gP_sI, gP_sJ, gP_sP, gP_cpI, cL_sI, cL_sJ, cL_sP, cL_cpI, aR_sI, aR_sJ, aR_sP, aR_cpI, nX_sI, nX_sJ, nX_sP, nX_cpI, oc_sIe, oc_sJe, oc_sPe, oc_cpIe]
        by_cases cj : j = i
        · subst cj; simp [e]
        · rw [if_neg (by omega), if_neg (by omega)]; exact hrow j (by omega)
      refine ⟨Fr_oc f1 ho, by omega, by omega, by omega, fun z => ?_, fun z => ?_⟩
      · have z0 := (z_Y hO a1.1 a1.2 a2.2).mp (tz.mp z)
        simp only [T_some, T_none, T_ck, T_cLt, T_cEq, T_jLt, T_jEq, T_bind, T_bd2, T_wS, T_cO, T_nnS, T_cNullN, T_cNullS, T_bT1, T_bT2, T_ex, T_ite, T_dC, Sum.elim_inl, Sum.elim_inr]
        refine ⟨⟨i + 1, base.1, by omega, Or.inl ⟨trivial, by omega⟩, base.2, f3⟩, ?_⟩
        rw [base.1]; omega
      · have nz : 0 < hL H k := by have := tz.mpr; omega
        have p3 := nxY_p hO a1.1 a1.2 nz a2.2
        simp only [T_some, T_none, T_ck, T_cLt, T_cEq, T_jLt, T_jEq, T_bind, T_bd2, T_wS, T_cO, T_nnS, T_cNullN, T_cNullS, T_bT1, T_bT2, T_ex, T_ite, T_dC, Sum.elim_inl, Sum.elim_inr, X6_nextYear hx3 a1.1 a1.2 a2.2]
        refine ⟨⟨i + 1, base.1, by omega, Or.inr ⟨by omega, by rw [e]; rfl⟩, base.2, f3⟩, ?_⟩
        rw [base.1]; omega
  · simp only [T_some, T_none, T_ck, T_cLt, T_cEq, T_jLt, T_jEq, T_bind, T_bd2, T_wS, T_cO, T_nnS, T_cNullN, T_cNullS, T_bT1, T_bT2, T_ex, T_ite, T_dC, Sum.elim_inl, Sum.elim_inr]
    have : rch H y m = false := by
      cases e : rch H y m with
      | false => rfl
      | true => exact absurd (fm.mpr (rch_t.mp e).2) c2
    exact ⟨(nog this).symm, Fr_r, fun q => by rw [this] at q; cases q⟩
  · simp only [T_some, T_none, T_ck, T_cLt, T_cEq, T_jLt, T_jEq, T_bind, T_bd2, T_wS, T_cO, T_nnS, T_cNullN, T_cNullS, T_bT1, T_bT2, T_ex, T_ite, T_dC, Sum.elim_inl, Sum.elim_inr]
    have : rch H y m = false := by
      cases e : rch H y m with
      | false => rfl
      | true => exact absurd (fy.mpr (rch_t.mp e).1) c1
    exact ⟨(nog this).symm, Fr_r, fun q => by rw [this] at q; cases q⟩
end
