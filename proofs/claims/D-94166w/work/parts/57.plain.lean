/-! answers: the first false step -/
set_option maxRecDepth 100000
def alC (C : Cal) (y a b : Int) : Bool := hasC C y a 1 && (hasC C y b 1 && decide (Int.tmod (dayC C y a 1) 7 = Int.tmod (dayC C y b 1) 7))
theorem alC_t {C : Cal} {y a b : Int} : alC C y a b = true ↔ hasC C y a 1 = true ∧ hasC C y b 1 = true ∧ Int.tmod (dayC C y a 1) 7 = Int.tmod (dayC C y b 1) 7 := by unfold alC; rw [Bool.and_eq_true_iff, Bool.and_eq_true_iff, decide_eq_true_iff]
def fsY (H : Hea) (C : Cal) (y i : Int) : Bool := decide (kindC C (rw' (nxY H) y i.toNat) = -1 ∨ ¬ kindC C (rw' (nxY H) y i.toNat) = kindC C (rw' (nxY H) y (i.toNat + 1)))
def fsM (H : Hea) (C : Cal) (z m i : Int) : Bool := ! alC C z (rw' (nxM H) m i.toNat) (rw' (nxM H) m (i.toNat + 1))
def fsC (H : Hea) (C : Cal) (y m : Int) : Int := match ffB (fsY H C y) (hL H y % 20000).toNat 0 with
  | some i => i
  | none => match ffB (fsM H C (kY H y) m) (hM H m % 20000).toNat 0 with
    | some j => hL H y % 20000 + j
    | none => -1
theorem tmod_R {D : Int} : inR (Int.tmod D 7) := by
  have h1 := Int.tmod_lt_of_pos D (b := 7) (by omega)
  have h2 := Int.lt_tmod_of_pos D (b := 7) (by omega)
  constructor <;> omega
theorem kindC_R {C : Cal} (h : calOK C) (y : Int) : inR (kindC C y) := by
  unfold kindC
  have h1 := Int.tmod_lt_of_pos (dayC C y 1 1) (b := 7) (by omega)
  have h2 := Int.lt_tmod_of_pos (dayC C y 1 1) (b := 7) (by omega)
  have d1 := dayC_b h y 1 1
  have d2 := dayC_b h y 12 31
  split
  · split <;> constructor <;> omega
  · constructor <;> omega
section
variable {σ : St} {x o a : Nat} {A : AS} {g c y m d v : Int} {C : Cal}
theorem X1_areAlike (h : CalX σ a C) {p q : Int} (hy : inR y) (hp : inR p) (hq : inR q) : f_X1_areAlike σ a y p q = some (bI (alC C y p q)) := by
  unfold f_X1_areAlike alC
  rw [cO_t h.1]
  refine T_eq.mp ?_
  simp only [T_bind, T_some, T_cEq, bI_R, true_and, bI_0, Bool.not_eq_false, X2_has h hy hp (by omega : inR 1), X2_has h hy hq (by omega : inR 1)]
  refine ⟨fun e => by rw [e]; rfl, fun e => ⟨fun e1 => by rw [e, e1]; rfl, fun e1 => ?_⟩⟩
  simp only [T_some, T_none, T_ck, T_cLt, T_cEq, T_jLt, T_jEq, T_bind, T_bd2, T_wS, T_cO, T_nnS, T_cNullN, T_cNullS, T_bT1, T_bT2, T_ex, T_ite, T_dC, Sum.elim_inl, Sum.elim_inr, X2_week h e, X2_week h e1]
  rw [e, e1]
  refine ⟨⟨tmod_R, tmod_R⟩, fun z => ?_, fun z => ?_⟩
  · rw [z]; simp [bI]
  · simp [bI, z]
theorem X1_falseOf (h : RR x o A σ) (g1 : 0 ≤ g) (g2 : g < (aV A 7 0)) (c1 : 0 ≤ c) (c2 : c < (aV A 6 0)) (y1 : 1 ≤ y) (y2 : y ≤ 9999) (m1 : 1 ≤ m) (m2 : m ≤ 12) (hr : rch (aH A g) y m = true) : T (f_X1_falseOf σ (aHa A g) (aCa A c) y m) (fun r => r.1 = fsC (aH A g) (aC A c) y m ∧ RR x o A r.2) := by
  obtain ⟨r1, r2⟩ := rch_t.mp hr
  obtain ⟨_, hx, _⟩ := R_head h g1 g2
  have hC := (R_cal h c1 c2).2
  have hO := R_hO h g1 g2
  have vy := (hO.2.2.1 y y1 y2).1
  have vm := (hO.2.2.2.1 m m1 m2).1
  unfold vOK at vy vm
  unfold f_X1_falseOf
  refine T_lp (fun s : Int × Int => ∃ i : Nat, s.1 = (i : Int) ∧ (i : Int) ≤ hL (aH A g) y % 20000 ∧ s.2 = rw' (nxY (aH A g)) y i ∧ ffB (fsY (aH A g) (aC A c) y) (hL (aH A g) y % 20000 - 0).toNat 0 = ffB (fsY (aH A g) (aC A c) y) (hL (aH A g) y % 20000 - i).toNat i) (fun s => (hL (aH A g) y % 20000 - s.1).toNat) ?_ ⟨0, rfl, by omega, rfl, rfl⟩
  intro ⟨n, k⟩ ⟨i, en, hi, ek, ef⟩
  dsimp only at en ek
  obtain ⟨a1, a2, a3⟩ := rwY hO y1 y2 r1 i hi
  rw [← ek] at a1 a2 a3
  unfold f_X1_falseOf_b6
  rw [hx.2.2.2.2.2.1 k a1.1 a1.2]
  simp only [T_cO, T_ck, T_jLt]
  refine ⟨hx.1, by omega, by omega, fun q => ?_, fun q => ?_⟩
  · obtain ⟨b1, b2, b3⟩ := nxY_p hO a1.1 a1.2 q a2.2
    have k1 := kindC_R (R_cO h c1 c2) k
    have k2 := kindC_R (R_cO h c1 c2) (nxY (aH A g) k)
    have nk : rw' (nxY (aH A g)) y (i + 1) = nxY (aH A g) k := by rw [ek]; rfl
    have fs : fsY (aH A g) (aC A c) y i = decide (kindC (aC A c) k = -1 ∨ ¬ kindC (aC A c) k = kindC (aC A c) (nxY (aH A g) k)) := by
      unfold fsY; rw [show ((i : Int).toNat) = i by omega, nk, ← ek]
    have st := ffB_s (fsY (aH A g) (aC A c) y) (k := (i : Int)) (hi := hL (aH A g) y % 20000) (by omega)
    have e0 : (hL (aH A g) y % 20000).toNat = (hL (aH A g) y % 20000 - 0).toNat := by omega
    have hit : fsY (aH A g) (aC A c) y i = true → n = fsC (aH A g) (aC A c) y m := by
      intro z
      unfold fsC
      rw [e0, ef, st, if_pos z, en]
    simp only [T_some, T_none, T_ck, T_cLt, T_cEq, T_jLt, T_jEq, T_bind, T_bd2, T_wS, T_cO, T_nnS, T_cNullN, T_cNullS, T_bT1, T_bT2, T_ex, T_ite, T_dC, Sum.elim_inl, Sum.elim_inr, X5_nextYear hx a1.1 a1.2, X2_kind hC (by omega : inR k), X2_kind hC (by omega : inR (nxY (aH A g) k))]
    refine ⟨hC.1, by omega, fun z => ⟨hit (by rw [fs]; simp [z]), h⟩, fun z => ⟨by omega, fun z1 => ⟨⟨i + 1, ?_⟩, by omega⟩, fun z1 => ⟨hit (by rw [fs]; simp [z1]), h⟩⟩⟩
    refine ⟨by rw [en]; omega, by omega, nk.symm, ?_⟩
    rw [ef, st, if_neg (by rw [fs, decide_eq_true_iff]; intro q; rcases q with q | q; exact z q; exact q z1)]
    congr 1
  · have z := z_Y hO a1.1 a1.2 a2.2
    have ei : (i : Int) = hL (aH A g) y % 20000 := by omega
    have no : ffB (fsY (aH A g) (aC A c) y) (hL (aH A g) y % 20000).toNat 0 = none := by
      rw [show (hL (aH A g) y % 20000).toNat = (hL (aH A g) y % 20000 - 0).toNat by omega, ef, show (hL (aH A g) y % 20000 - (i : Int)).toNat = 0 by omega]; rfl
    simp only [T_ex, T_bd2]
    refine T_mono (R_known h g1 g2 y1 y2 r1) (fun w ⟨e, h'⟩ => ?_)
    obtain ⟨_, hx', _⟩ := R_head h' g1 g2
    have hC' := (R_cal h' c1 c2).2
    have kyb := kY_b hO y1 y2 r1
    rw [e]
    refine T_lp (fun s => ∃ j : Nat, s.1 = hL (aH A g) y % 20000 + j ∧ (j : Int) ≤ hM (aH A g) m % 20000 ∧ s.2 = rw' (nxM (aH A g)) m j ∧ ffB (fsM (aH A g) (aC A c) (kY (aH A g) y) m) (hM (aH A g) m % 20000 - 0).toNat 0 = ffB (fsM (aH A g) (aC A c) (kY (aH A g) y) m) (hM (aH A g) m % 20000 - j).toNat j) (fun s => (hL (aH A g) y % 20000 + hM (aH A g) m % 20000 - s.1).toNat) ?_ ⟨0, by dsimp only; omega, by omega, rfl, rfl⟩
    intro ⟨n', k'⟩ ⟨j, en', hj, ek', ef'⟩
    dsimp only at en' ek'
    obtain ⟨b1, b2, b3⟩ := rwM hO m1 m2 r2 j hj
    rw [← ek'] at b1 b2 b3
    unfold f_X1_falseOf_b74
    rw [hx'.2.2.2.2.2.2.1 k' b1.1 b1.2]
    simp only [T_cO, T_ck, T_jLt]
    refine ⟨hx'.1, by omega, by omega, fun q => ?_, fun q => ?_⟩
    · obtain ⟨d1, d2, d3⟩ := nxM_p hO b1.1 b1.2 q b2.2
      have nk : rw' (nxM (aH A g)) m (j + 1) = nxM (aH A g) k' := by rw [ek']; rfl
      have fs : fsM (aH A g) (aC A c) (kY (aH A g) y) m j = ! alC (aC A c) (kY (aH A g) y) k' (nxM (aH A g) k') := by
        unfold fsM; rw [show ((j : Int).toNat) = j by omega, nk, ← ek']
      have st := ffB_s (fsM (aH A g) (aC A c) (kY (aH A g) y) m) (k := (j : Int)) (hi := hM (aH A g) m % 20000) (by omega)
      simp only [T_bind, T_some, T_ex, Sum.elim_inl, Sum.elim_inr, T_cEq, bI_R, true_and, bI_0, Bool.not_eq_false, X5_nextMonth hx' b1.1 b1.2, X1_areAlike hC' (by omega : inR (kY (aH A g) y)) (by omega : inR k') (by omega : inR (nxM (aH A g) k'))]
      refine ⟨fun z => ⟨?_, h'⟩, fun z => ⟨⟨j + 1, by omega, by omega, nk.symm, ?_⟩, by omega⟩⟩
      · unfold fsC
        rw [no]
        dsimp only
        rw [show (hM (aH A g) m % 20000).toNat = (hM (aH A g) m % 20000 - 0).toNat by omega, ef', st, if_pos (by rw [fs, z]; rfl), en']
      · rw [ef', st, if_neg (by rw [fs, z]; simp)]
        congr 1
    · have z := z_M hO b1.1 b1.2 b2.2
      simp only [T_some, T_none, T_ck, T_cLt, T_cEq, T_jLt, T_jEq, T_bind, T_bd2, T_wS, T_cO, T_nnS, T_cNullN, T_cNullS, T_bT1, T_bT2, T_ex, T_ite, T_dC, Sum.elim_inl, Sum.elim_inr]
      refine ⟨?_, h'⟩
      unfold fsC
      rw [no]
      dsimp only
      rw [show (hM (aH A g) m % 20000).toNat = (hM (aH A g) m % 20000 - 0).toNat by omega, ef', show (hM (aH A g) m % 20000 - (j : Int)).toNat = 0 by omega]; rfl
theorem X6_falseStep (h : RR x o A σ) (g1 : 0 ≤ g) (g2 : g < (aV A 7 0)) (c1 : 0 ≤ c) (c2 : c < (aV A 6 0)) (y1 : 1 ≤ y) (y2 : y ≤ 9999) (m1 : 1 ≤ m) (m2 : m ≤ 12) (hr : rch (aH A g) y m = true) (hrow : rowsM σ o (aH A g) y m) : f_X6_falseStep σ o c = some (fsC (aH A g) (aC A c) y m) := by
  have n := R_n h
  obtain ⟨r1, r2⟩ := rch_t.mp hr
  have hO := R_hO h g1 g2
  have vy := (hO.2.2.1 y y1 y2).1
  have vm := (hO.2.2.2.1 m m1 m2).1
  have m11 := (hO.2.2.2.1 m m1 m2).2.1 r2
  unfold vOK at vy vm
  obtain ⟨⟨e38, r36⟩, e39, r37⟩ := hrow
  have hCm := h.2.2.2.2.2.1 c c1 c2
  have e0 : (hL (aH A g) y % 20000).toNat = (hL (aH A g) y % 20000 - 0).toNat := by omega
  have e1 : (hM (aH A g) m % 20000).toNat = (hM (aH A g) m % 20000 - 0).toNat := by omega
  unfold f_X6_falseStep
  rw [cO_t (R_o h)]
  refine T_eq.mp (T_lp (fun i' => ∃ i : Nat, i' = (i : Int) + 1 ∧ (i : Int) ≤ hL (aH A g) y % 20000 ∧ ffB (fsY (aH A g) (aC A c) y) (hL (aH A g) y % 20000 - 0).toNat 0 = ffB (fsY (aH A g) (aC A c) y) (hL (aH A g) y % 20000 - i).toNat i) (fun i' => (hL (aH A g) y % 20000 + 1 - i').toNat) ?_ ⟨0, rfl, by omega, rfl⟩)
  intro i' ⟨i, ei, hi, ef⟩
  subst ei
  unfold f_X6_falseStep_b2
  rw [e38]
  simp only [T_cLt]
  refine ⟨by omega, fun q => ?_, fun q => ?_⟩
  · have ri := (rwY hO y1 y2 r1 i hi).1
    have rj := (rwY hO y1 y2 r1 (i + 1) (by omega)).1
    have k1 := kindC_R (R_cO h c1 c2) (rw' (nxY (aH A g)) y i)
    have k2 := kindC_R (R_cO h c1 c2) (rw' (nxY (aH A g)) y (i + 1))
    have st := ffB_s (fsY (aH A g) (aC A c) y) (k := (i : Int)) (hi := hL (aH A g) y % 20000) (by omega)
    have fs : fsY (aH A g) (aC A c) y i = decide (kindC (aC A c) (rw' (nxY (aH A g)) y i) = -1 ∨ ¬ kindC (aC A c) (rw' (nxY (aH A g)) y i) = kindC (aC A c) (rw' (nxY (aH A g)) y (i + 1))) := by
      unfold fsY; rw [show ((i : Int).toNat) = i by omega]
    have hit : fsY (aH A g) (aC A c) y i = true → (i : Int) + 1 - 1 = fsC (aH A g) (aC A c) y m := by
      intro z
      unfold fsC
      rw [e0, ef, st, if_pos z]
      dsimp only; omega
    have w1 : gI σ o 36 ((i : Int) + 1 - 1) = rw' (nxY (aH A g)) y i := by rw [show (i : Int) + 1 - 1 = i by omega]; exact r36 i hi
    have w2 : gI σ o 36 ((i : Int) + 1) = rw' (nxY (aH A g)) y (i + 1) := by have := r36 (i + 1) (by omega); rw [show ((i + 1 : Nat) : Int) = (i : Int) + 1 by omega] at this; exact this
    rw [w1, w2]
    simp only [T_some, T_none, T_ck, T_cLt, T_cEq, T_jLt, T_jEq, T_bind, T_bd2, T_wS, T_cO, T_nnS, T_cNullN, T_cNullS, T_bT1, T_bT2, T_ex, T_ite, T_dC, Sum.elim_inl, Sum.elim_inr, X6_kindO h ⟨c1, c2⟩ (by omega : inR (rw' (nxY (aH A g)) y i)), X6_kindO h ⟨c1, c2⟩ (by omega : inR (rw' (nxY (aH A g)) y (i + 1)))]
    refine ⟨by omega, by omega, fun z => hit (by rw [fs]; simp [z]), fun z => ⟨by omega, by omega, fun z1 => ⟨⟨i + 1, by omega, by omega, ?_⟩, by omega⟩, fun z1 => hit (by rw [fs]; simp [z1])⟩⟩
    rw [ef, st, if_neg (by rw [fs, decide_eq_true_iff]; intro q; rcases q with q | q; exact z q; exact q z1)]
    congr 1
  · have no : ffB (fsY (aH A g) (aC A c) y) (hL (aH A g) y % 20000).toNat 0 = none := by
      rw [e0, ef, show (hL (aH A g) y % 20000 - (i : Int)).toNat = 0 by omega]; rfl
    have kyb := kY_b hO y1 y2 r1
    have ky : gI σ o 36 (hL (aH A g) y % 20000 + 1 - 1) = kY (aH A g) y := by
      rw [show hL (aH A g) y % 20000 + 1 - 1 = ((hL (aH A g) y % 20000).toNat : Nat) by omega, r36 _ (by omega)]; rfl
    rw [ky]
    simp only [T_ex, T_ck]
    refine ⟨by omega, ?_⟩
    refine T_lp (fun i' => ∃ j : Nat, i' = (j : Int) + 1 ∧ (j : Int) ≤ hM (aH A g) m % 20000 ∧ ffB (fsM (aH A g) (aC A c) (kY (aH A g) y) m) (hM (aH A g) m % 20000 - 0).toNat 0 = ffB (fsM (aH A g) (aC A c) (kY (aH A g) y) m) (hM (aH A g) m % 20000 - j).toNat j) (fun i' => (hM (aH A g) m % 20000 + 1 - i').toNat) ?_ ⟨0, rfl, by omega, rfl⟩
    intro i' ⟨j, ej, hj, ef'⟩
    subst ej
    unfold f_X6_falseStep_b68 f_X6_falseStep_j114 f_X6_falseStep_j115
    rw [e39, e38]
    simp only [T_cLt]
    refine ⟨by omega, fun q2 => ?_, fun q2 => ?_⟩
    · have ri := (rwM hO m1 m2 r2 j hj).1
      have rj := (rwM hO m1 m2 r2 (j + 1) (by omega)).1
      have st := ffB_s (fsM (aH A g) (aC A c) (kY (aH A g) y) m) (k := (j : Int)) (hi := hM (aH A g) m % 20000) (by omega)
      have fs : fsM (aH A g) (aC A c) (kY (aH A g) y) m j = ! alC (aC A c) (kY (aH A g) y) (rw' (nxM (aH A g)) m j) (rw' (nxM (aH A g)) m (j + 1)) := by
        unfold fsM; rw [show ((j : Int).toNat) = j by omega]
      have hit : alC (aC A c) (kY (aH A g) y) (rw' (nxM (aH A g)) m j) (rw' (nxM (aH A g)) m (j + 1)) = false → hL (aH A g) y % 20000 + 1 + ((j : Int) + 1) - 2 = fsC (aH A g) (aC A c) y m := by
        intro z
        unfold fsC
        rw [no]
        dsimp only
        rw [e1, ef', st, if_pos (by rw [fs, z]; rfl)]
        dsimp only; omega
      have w1 : gI σ o 37 ((j : Int) + 1 - 1) = rw' (nxM (aH A g)) m j := by rw [show (j : Int) + 1 - 1 = j by omega]; exact r37 j hj
      have w2 : gI σ o 37 ((j : Int) + 1) = rw' (nxM (aH A g)) m (j + 1) := by have := r37 (j + 1) (by omega); rw [show ((j + 1 : Nat) : Int) = (j : Int) + 1 by omega] at this; exact this
      rw [w1, w2]
      have fl : ∀ b : Bool, ¬ b = true → b = false := by intro b; cases b <;> simp
      have iD : ∀ z, isD A c (kY (aH A g) y) z 1 = hasC (aC A c) (kY (aH A g) y) z 1 := by intro z; unfold isD; rw [isC_t.mpr ⟨c1, c2⟩]; rfl
      simp only [T_bind, T_some, T_ck, T_ex, Sum.elim_inl, Sum.elim_inr, T_cEq, bI_R, true_and, bI_0, Bool.not_eq_false, X6_isDat h (by omega : inR c) (by omega : inR (kY (aH A g) y)) (by omega : inR (rw' (nxM (aH A g)) m j)) (by omega : inR 1), X6_isDat h (by omega : inR c) (by omega : inR (kY (aH A g) y)) (by omega : inR (rw' (nxM (aH A g)) m (j + 1))) (by omega : inR 1), iD]
      refine ⟨by omega, fun z => ⟨by omega, fun _ => hit (fl _ (fun w => by rw [(alC_t.mp w).1] at z; cases z)), fun q => absurd trivial q⟩, fun z => ⟨by omega, fun z1 => ⟨by omega, fun _ => hit (fl _ (fun w => by rw [(alC_t.mp w).2.1] at z1; cases z1)), fun q => absurd trivial q⟩, fun z1 => ⟨by omega, fun q => by omega, fun _ => ⟨by omega, ?_⟩⟩⟩⟩
      have d1 := dayC_bb h ⟨c1, c2⟩ (y := kY (aH A g) y) (m := rw' (nxM (aH A g)) m j) (d := 1)
      have d2 := dayC_bb h ⟨c1, c2⟩ (y := kY (aH A g) y) (m := rw' (nxM (aH A g)) m (j + 1)) (d := 1)
      simp only [T_some, T_none, T_ck, T_cLt, T_cEq, T_jLt, T_jEq, T_bind, T_bd2, T_wS, T_cO, T_nnS, T_cNullN, T_cNullS, T_bT1, T_bT2, T_ex, T_ite, T_dC, Sum.elim_inl, Sum.elim_inr, X6_dayO h (c := c) (y := kY (aH A g) y) (m := rw' (nxM (aH A g)) m j) (d := 1) (by rw [iD]; exact z), X6_dayO h (c := c) (y := kY (aH A g) y) (m := rw' (nxM (aH A g)) m (j + 1)) (d := 1) (by rw [iD]; exact z1)]
      refine ⟨by omega, by omega, by omega, ⟨tmod_R, tmod_R⟩, fun z2 => ⟨⟨j + 1, by omega, by omega, ?_⟩, by omega⟩, fun z2 => hit (fl _ (fun w => z2 (alC_t.mp w).2.2))⟩
      rw [ef', st, if_neg (by rw [fs, alC_t.mpr ⟨z, z1, z2⟩]; simp)]
      congr 1
    · simp only [T_some, T_none, T_ck, T_cLt, T_cEq, T_jLt, T_jEq, T_bind, T_bd2, T_wS, T_cO, T_nnS, T_cNullN, T_cNullS, T_bT1, T_bT2, T_ex, T_ite, T_dC, Sum.elim_inl, Sum.elim_inr]
      unfold fsC
      rw [no]
      dsimp only
      rw [e1, ef', show (hM (aH A g) m % 20000 - (j : Int)).toNat = 0 by omega]; rfl
def slV (p D : Int) : Int := ((p - D) % 7 + 3) % 7 - 3
theorem X1_slip {p D : Int} (h1 : 0 ≤ p) (h2 : p ≤ 6) (h3 : 0 ≤ D) : f_X1_slip σ p (Int.tmod D 7) = some (slV p D) := by
  unfold f_X1_slip slV
  rw [Int.tmod_eq_emod_of_nonneg h3, Int.tmod_eq_emod_of_nonneg (by omega), ck_t (by omega)]
  congr 1; omega
theorem tm7 (v : Int) : Int.tmod (Int.tmod v 7 + 7) 7 = v % 7 := by
  have h1 := Int.tmod_lt_of_pos v (b := 7) (by omega)
  have h2 := Int.lt_tmod_of_pos v (b := 7) (by omega)
  rw [Int.tmod_eq_emod_of_nonneg (by omega), Int.tmod_eq_emod]
  split <;> omega
theorem X6_round {p D : Int} (h1 : 0 ≤ p) (h2 : p ≤ 6) (h3 : 0 ≤ D) (h4 : D ≤ 19000000) : f_X6_round σ (p - D) = some (slV p D) := by
  have h1' := Int.tmod_lt_of_pos (p - D) (b := 7) (by omega)
  have h2' := Int.lt_tmod_of_pos (p - D) (b := 7) (by omega)
  unfold f_X6_round slV
  rw [ck_t (by omega), ck_t (by omega), tm7]
  refine T_eq.mp ?_
  simp only [T_some, T_none, T_ck, T_cLt, T_cEq, T_jLt, T_jEq, T_bind, T_bd2, T_wS, T_cO, T_nnS, T_cNullN, T_cNullS, T_bT1, T_bT2, T_ex, T_ite, T_dC, Sum.elim_inl, Sum.elim_inr]
  refine ⟨by omega, fun q => ?_, fun q => ?_⟩ <;> omega
def anV (A : AS) (g c y m d w : Int) : Int := if isA A g c y m d && isB w 0 3 then (if w = 0 then ansC (aH A g) (aC A c) y m d else if w = 1 then tenC (aH A g) (aC A c) y m d else if w = 2 then slV (ansC (aH A g) (aC A c) y m d) (dayC (aC A c) y m d) else fsC (aH A g) (aC A c) y m) else -1000
theorem ansC_b {H : Hea} {C : Cal} : 0 ≤ ansC H C y m d ∧ ansC H C y m d ≤ 6 := by unfold ansC; omega
theorem O_answersX {w : Int} (h : RR x o A σ) (hg : inR g) (hc : inR c) (hy : inR y) (hm : inR m) (hd : inR d) (hw : inR w) : T (f_X1_answers σ x g c y m d w) (fun r => r.1 = anV A g c y m d w ∧ RR x o A r.2) := by
  have n := R_n h
  unfold f_X1_answers
  rw [cO_t (R_x h), T_bd2]
  refine T_mono (X1_isAnswered h hg hc hy hm hd) (fun r ⟨r1, r2⟩ => ?_)
  obtain ⟨rv, σ1⟩ := r
  dsimp only at r1 r2 ⊢
  rw [r1]
  unfold anV
  simp only [T_cEq, bI_R, true_and, bI_0, Bool.not_eq_false, T_some, T_ck, T_bind, X1_isB (by omega : inL w) (by omega : inL 0) (by omega : inL 3)]
  refine ⟨fun e => ⟨by rw [e]; rfl, r2⟩, fun e => ⟨hw, fun e1 => ⟨by rw [e1]; simp, r2⟩, fun e1 => ?_⟩⟩
  obtain ⟨q, q1, q2⟩ := isA_t.mp e
  have w1 := isB_t.mp e1
  have qh := isH_t.mp q
  obtain ⟨qc, qd⟩ := isD_t.mp q1
  obtain ⟨⟨y1, y2⟩, ⟨m1, m2⟩, d1, d2⟩ := hasC_i qd
  rw [(R_head r2 qh.1 qh.2).1, (R_cal r2 qc.1 qc.2).1, e, e1]
  simp only [T_cO, T_ck, T_nnS, T_cEq, T_bd2, T_some]
  refine ⟨R_x r2, by omega, by omega, by omega, fun w0 => ?_, fun w0 => ⟨by omega, fun w1 => ?_, fun w1 => ⟨by omega, fun w2 => ?_, fun w2 => ?_⟩⟩⟩
  · refine T_mono (X1_answerOf r2 qh.1 qh.2 qc.1 qc.2 y1 y2 m1 m2 d1 d2 q2) (fun s ⟨s1, s2⟩ => ⟨?_, s2⟩)
    rw [s1]; simp [w0]
  · refine T_mono (X1_tenthsOf r2 qh.1 qh.2 qc.1 qc.2 y1 y2 m1 m2 d1 d2 (goC_t q2).1) (fun s ⟨s1, s2⟩ => ⟨?_, s2⟩)
    rw [s1]; simp [w1]
  · refine T_mono (X1_answerOf r2 qh.1 qh.2 qc.1 qc.2 y1 y2 m1 m2 d1 d2 q2) (fun s ⟨s1, s2⟩ => ?_)
    have hC := (R_cal s2 qc.1 qc.2).2
    have ab := ansC_b (H := aH A g) (C := aC A c) (y := y) (m := m) (d := d)
    have db := dayC_bb s2 qc (y := y) (m := m) (d := d)
    rw [s1]
    simp only [T_some, T_none, T_ck, T_cLt, T_cEq, T_jLt, T_jEq, T_bind, T_bd2, T_wS, T_cO, T_nnS, T_cNullN, T_cNullS, T_bT1, T_bT2, T_ex, T_ite, T_dC, Sum.elim_inl, Sum.elim_inr, X2_week hC qd, X1_slip ab.1 ab.2 db.1]
    refine ⟨hC.1, ?_, s2⟩
    simp [w2]
  · refine T_mono (X1_falseOf r2 qh.1 qh.2 qc.1 qc.2 y1 y2 m1 m2 (goC_t q2).1) (fun s ⟨s1, s2⟩ => ⟨?_, s2⟩)
    rw [s1]; simp [w0, w1, w2]
theorem O_answersM {w : Int} (h : RR x o A σ) (hg : inR g) (hc : inR c) (hy : inR y) (hm : inR m) (hd : inR d) (hw : inR w) : T (f_X6_answers σ o g c y m d w) (fun r => r.1 = anV A g c y m d w ∧ RR x o A r.2) := by
  have n := R_n h
  unfold f_X6_answers anV isA
  rw [cO_t (R_o h)]
  simp only [T_cEq, bI_R, true_and, bI_0, Bool.not_eq_false, T_some, T_bind, X6_isHead h hg, X6_isDat h hc hy hm hd, X6_isB hw (by omega : inR 0) (by omega : inR 3), T_bd2]
  refine ⟨fun e => ⟨by rw [e]; rfl, h⟩, fun e => ⟨fun e1 => ⟨by rw [e, e1]; rfl, h⟩, fun e1 => ⟨fun e2 => ⟨by rw [e2]; simp, h⟩, fun e2 => ?_⟩⟩⟩
  have qh := isH_t.mp e
  obtain ⟨qc, qd⟩ := isD_t.mp e1
  obtain ⟨⟨y1, y2⟩, ⟨m1, m2⟩, d1, d2⟩ := hasC_i qd
  have w1 := isB_t.mp e2
  refine T_mono (X6_answer h qh.1 qh.2 qc.1 qc.2 y1 y2 m1 m2 d1 d2) (fun r ⟨r1, f1, va, rows⟩ => ?_)
  have h1 := RR_sc h f1
  rw [r1, e, e1, e2]
  simp only [T_cEq, bI_R, true_and, bI_0, Bool.not_eq_false, T_some]
  refine ⟨fun z => ⟨by rw [z]; rfl, h1⟩, fun z => ?_⟩
  obtain ⟨v1, v2⟩ := va z
  rw [z]
  have ab := ansC_b (H := aH A g) (C := aC A c) (y := y) (m := m) (d := d)
  have db := dayC_bb h1 qc (y := y) (m := m) (d := d)
  simp only [T_some, T_none, T_ck, T_cLt, T_cEq, T_jLt, T_jEq, T_bind, T_bd2, T_wS, T_cO, T_nnS, T_cNullN, T_cNullS, T_bT1, T_bT2, T_ex, T_ite, T_dC, Sum.elim_inl, Sum.elim_inr, v1, v2, X6_dayO h1 e1, X6_round ab.1 ab.2 db.1 db.2, X6_falseStep h1 qh.1 qh.2 qc.1 qc.2 y1 y2 m1 m2 (goC_t z).1 (rows (goC_t z).1)]
  refine ⟨by omega, fun w0 => ⟨R_o h1, ?_, h1⟩, fun w0 => ⟨by omega, fun w1 => ⟨R_o h1, ?_, h1⟩, fun w1 => ⟨by omega, fun w2 => ⟨R_o h1, ?_, h1⟩, fun w2 => ⟨R_o h1, ?_, h1⟩⟩⟩⟩
  · simp [w0]
  · simp [w1]
  · simp [w2]
  · simp [w0, w1, w2]
end
