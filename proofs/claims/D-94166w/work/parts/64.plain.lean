/-! heads that a date parts -/
set_option maxRecDepth 100000
def apB (A : AS) (g g' c y m d : Int) : Bool := if goC (aH A g) (aC A c) y m && goC (aH A g') (aC A c) y m then decide (¬ ansC (aH A g) (aC A c) y m d = ansC (aH A g') (aC A c) y m d ∨ ¬ tenC (aH A g) (aC A c) y m d = tenC (aH A g') (aC A c) y m d) else (goC (aH A g) (aC A c) y m != goC (aH A g') (aC A c) y m)
section
variable {σ : St} {x o a b : Nat} {A : AS} {g g' c y m d v k s p : Int} {C C' : Cal}
theorem X1_partsAt (h : RR x o A σ) (g1 : 0 ≤ g) (g2 : g < (aV A 7 0)) (p1 : 0 ≤ g') (p2 : g' < (aV A 7 0)) (hd : isD A c y m d = true) : T (f_X1_partsAt σ x (aHa A g) (aHa A g') (aCa A c) y m d) (fun r => r.1 = bI (apB A g g' c y m d) ∧ RR x o A r.2) := by
  obtain ⟨c1, hh⟩ := isD_t.mp hd
  obtain ⟨⟨y1, y2⟩, ⟨m1, m2⟩, d1, d2⟩ := hasC_i hh
  unfold f_X1_partsAt
  rw [cO_t (R_x h), T_bd2]
  refine T_mono (X1_hasWay h g1 g2 c1.1 c1.2 y1 y2 m1 m2) (fun r ⟨e1, h1⟩ => ?_)
  rw [cO_t (R_x h1), T_bd2]
  refine T_mono (X1_hasWay h1 p1 p2 c1.1 c1.2 y1 y2 m1 m2) (fun r2 ⟨e2, h2⟩ => ?_)
  rw [T_bd2, e1, e2]
  have fin : T (f_X1_parts r2.2 (aHa A g) (aHa A g') (aCa A c) y m d (bI (goC (aH A g) (aC A c) y m)) (bI (goC (aH A g') (aC A c) y m))) (fun r => r.1 = bI (apB A g g' c y m d) ∧ RR x o A r.2) := by
    have bb1 := bI_b (goC (aH A g) (aC A c) y m)
    have bb2 := bI_b (goC (aH A g') (aC A c) y m)
    unfold f_X1_parts f_X1_parts_j10 apB
    simp only [T_cEq, T_some, T_bd2]
    cases z1 : goC (aH A g) (aC A c) y m with
    | false =>
      refine ⟨by show inR 0 ∧ inR 0; omega, fun _ => ?_, fun q => absurd rfl q⟩
      cases z2 : goC (aH A g') (aC A c) y m with
      | false => exact ⟨by show inR 0 ∧ inR 0; omega, fun _ => ⟨rfl, h2⟩, fun q => absurd rfl q⟩
      | true => exact ⟨by show inR 0 ∧ inR 1; omega, fun q => by have q : (0 : Int) = 1 := q; omega, fun _ => ⟨rfl, h2⟩⟩
    | true =>
      refine ⟨by show inR 1 ∧ inR 0; omega, fun q => by have q : (1 : Int) = 0 := q; omega, fun _ => ?_⟩
      cases z2 : goC (aH A g') (aC A c) y m with
      | false => exact ⟨by show inR 0 ∧ inR 0; omega, fun _ => ⟨by show inR 1 ∧ inR 0; omega, fun q => by have q : (1 : Int) = 0 := q; omega, fun _ => ⟨rfl, h2⟩⟩, fun q => absurd rfl q⟩
      | true =>
        refine ⟨by show inR 1 ∧ inR 0; omega, fun q => by have q : (1 : Int) = 0 := q; omega, fun _ => ?_⟩
        refine T_mono (X1_answerOf h2 g1 g2 c1.1 c1.2 y1 y2 m1 m2 d1 d2 z1) (fun r3 ⟨e3, h3⟩ => ?_)
        refine T_mono (X1_answerOf h3 p1 p2 c1.1 c1.2 y1 y2 m1 m2 d1 d2 z2) (fun r4 ⟨e4, h4⟩ => ?_)
        have a1 := ansC_b (H := aH A g) (C := aC A c) (y := y) (m := m) (d := d)
        have a2 := ansC_b (H := aH A g') (C := aC A c) (y := y) (m := m) (d := d)
        have t1 := tenC_b (R_hO h g1 g2) (C := aC A c) y1 y2 m1 m2 d1 d2 (goC_t z1).1
        have t2 := tenC_b (R_hO h p1 p2) (C := aC A c) y1 y2 m1 m2 d1 d2 (goC_t z2).1
        rw [e3, e4]
        refine ⟨by omega, fun w => ?_, fun w => ⟨?_, h4⟩⟩
        · refine T_mono (X1_tenthsOf h4 g1 g2 c1.1 c1.2 y1 y2 m1 m2 d1 d2 (goC_t z1).1) (fun r5 ⟨e5, h5⟩ => ?_)
          refine T_mono (X1_tenthsOf h5 p1 p2 c1.1 c1.2 y1 y2 m1 m2 d1 d2 (goC_t z2).1) (fun r6 ⟨e6, h6⟩ => ?_)
          rw [e5, e6]
          refine ⟨by omega, fun w1 => ⟨?_, h6⟩, fun w1 => ⟨?_, h6⟩⟩
          · simp [bI, w, w1]
          · simp [bI, w1]
        · simp [bI, w]
  refine T_mono fin (fun r3 ⟨e3, h3⟩ => ?_)
  simp only [T_some, T_none, T_ck, T_cLt, T_cEq, T_jLt, T_jEq, T_bind, T_bd2, T_wS, T_cO, T_nnS, T_cNullN, T_cNullS, T_bT1, T_bT2, T_ex, T_ite, T_dC, Sum.elim_inl, Sum.elim_inr, e3]
  exact ⟨bI_b _, trivial, h3⟩
theorem X6_areApart (h : RR x o A σ) (g1 : 0 ≤ g) (g2 : g < (aV A 7 0)) (p1 : 0 ≤ g') (p2 : g' < (aV A 7 0)) (hd : isD A c y m d = true) : T (f_X6_areApart σ o g g' c y m d) (fun r => r.1 = bI (apB A g g' c y m d) ∧ RR x o A r.2) := by
  obtain ⟨c1, hh⟩ := isD_t.mp hd
  obtain ⟨⟨y1, y2⟩, ⟨m1, m2⟩, d1, d2⟩ := hasC_i hh
  unfold f_X6_areApart apB
  rw [cO_t (R_o h), T_bd2]
  refine T_mono (X6_answer h g1 g2 c1.1 c1.2 y1 y2 m1 m2 d1 d2) (fun r ⟨e1, f1, va1, _⟩ => ?_)
  have h1 := RR_sc h f1
  rw [cO_t (R_o h1), T_bd2]
  refine T_mono (X6_answer h1 p1 p2 c1.1 c1.2 y1 y2 m1 m2 d1 d2) (fun r2 ⟨e2, f2, va2, _⟩ => ?_)
  have h2 := RR_sc h1 f2
  rw [e1, e2]
  simp only [T_cEq, T_some, T_cO]
  cases z1 : goC (aH A g) (aC A c) y m with
  | false =>
    cases z2 : goC (aH A g') (aC A c) y m with
    | false => exact ⟨by show inR 0 ∧ inR 0; omega, fun _ => ⟨by show inR 0 ∧ inR 0; omega, fun _ => ⟨rfl, h2⟩, fun q => absurd rfl q⟩, fun q => absurd rfl q⟩
    | true => exact ⟨by show inR 0 ∧ inR 1; omega, fun q => by have q : (0 : Int) = 1 := q; omega, fun _ => ⟨rfl, h2⟩⟩
  | true =>
    cases z2 : goC (aH A g') (aC A c) y m with
    | false => exact ⟨by show inR 1 ∧ inR 0; omega, fun q => by have q : (1 : Int) = 0 := q; omega, fun _ => ⟨rfl, h2⟩⟩
    | true =>
      obtain ⟨v1, v2⟩ := va1 z1
      obtain ⟨v3, v4⟩ := va2 z2
      have a1 := ansC_b (H := aH A g) (C := aC A c) (y := y) (m := m) (d := d)
      have a2 := ansC_b (H := aH A g') (C := aC A c) (y := y) (m := m) (d := d)
      have t1 := tenC_b (R_hO h g1 g2) (C := aC A c) y1 y2 m1 m2 d1 d2 (goC_t z1).1
      have t2 := tenC_b (R_hO h p1 p2) (C := aC A c) y1 y2 m1 m2 d1 d2 (goC_t z2).1
      rw [v1, v2, v3, v4]
      refine ⟨by show inR 1 ∧ inR 1; omega, fun _ => ⟨by show inR 1 ∧ inR 0; omega, fun q => by have q : (1 : Int) = 0 := q; omega, fun _ => ⟨R_o h2, by omega, fun w => ⟨by omega, fun w1 => ⟨?_, h2⟩, fun w1 => ⟨?_, h2⟩⟩, fun w => ⟨?_, h2⟩⟩⟩, fun q => absurd rfl q⟩
      · simp [bI, w, w1]
      · simp [bI, w1]
      · simp [bI, w]
/-- sets of heads -/
def hsB (A : AS) (s : Int) : Bool := decide (0 ≤ s ∧ s < 2 ^ ((aV A 7 0)).toNat)
theorem hsB_t : hsB A s = true ↔ 0 ≤ s ∧ s < 2 ^ ((aV A 7 0)).toNat := by simp [hsB]
theorem pw_b {n : Nat} (h : n ≤ 8) : (1 : Int) ≤ 2 ^ n ∧ (2 : Int) ^ n ≤ 256 := by
  have : n = 0 ∨ n = 1 ∨ n = 2 ∨ n = 3 ∨ n = 4 ∨ n = 5 ∨ n = 6 ∨ n = 7 ∨ n = 8 := by omega
  rcases this with e | e | e | e | e | e | e | e | e <;> subst e <;> omega
theorem X1_areHeads (h : RR x o A σ) (hs : inR s) : f_X1_areHeads σ x s = some (bI (hsB A s)) := by
  have n := R_n h
  have pw := pw_b (n := ((aV A 7 0)).toNat) (by omega)
  unfold f_X1_areHeads
  rw [cO_t (R_x h), Rv7 h, shl_1 (by omega) (by omega)]
  refine T_eq.mp ?_
  simp only [T_some, T_none, T_ck, T_cLt, T_cEq, T_jLt, T_jEq, T_bind, T_bd2, T_wS, T_cO, T_nnS, T_cNullN, T_cNullS, T_bT1, T_bT2, T_ex, T_ite, T_dC, Sum.elim_inl, Sum.elim_inr]
  unfold bI
  refine ⟨by omega, fun q => ?_, fun q => ⟨by omega, fun q1 => ?_, fun q1 => ?_⟩⟩
  · rw [if_neg]; rw [hsB_t]; omega
  · rw [if_pos]; rw [hsB_t]; omega
  · rw [if_neg]; rw [hsB_t]; omega
theorem X6_areHeads (h : RR x o A σ) (hs : inR s) : f_X6_areHeads σ o s = some (bI (hsB A s)) := by
  have n := R_n h
  have pw := pw_b (n := ((aV A 7 0)).toNat) (by omega)
  unfold f_X6_areHeads
  rw [cO_t (R_o h), R_nh h, shr_v hs (by omega) (by omega), Int.shiftRight_eq_div_pow]
  refine T_eq.mp ?_
  have e2 : ((2 ^ ((aV A 7 0)).toNat : Nat) : Int) = 2 ^ ((aV A 7 0)).toNat := by simp
  simp only [T_some, T_none, T_ck, T_cLt, T_cEq, T_jLt, T_jEq, T_bind, T_bd2, T_wS, T_cO, T_nnS, T_cNullN, T_cNullS, T_bT1, T_bT2, T_ex, T_ite, T_dC, Sum.elim_inl, Sum.elim_inr, e2]
  generalize hp : (2 : Int) ^ ((aV A 7 0)).toNat = P at pw
  unfold bI
  have tt : hsB A s = true ↔ 0 ≤ s ∧ s < P := by rw [hsB_t, hp]
  by_cases q : s < 0
  · refine ⟨by omega, fun _ => ?_, fun q1 => absurd q q1⟩
    rw [if_neg]; rw [tt]; omega
  · have d0 := Int.ediv_nonneg (by omega : 0 ≤ s) (by omega : 0 ≤ P)
    have d1 := Int.ediv_le_self P (by omega : 0 ≤ s)
    refine ⟨by omega, fun q1 => absurd q1 q, fun _ => ⟨by omega, fun z => ?_, fun z => ?_⟩⟩
    · rw [if_pos]; rw [tt]
      have := Int.lt_ediv_add_one_mul_self s (by omega : 0 < P)
      rw [z] at this; omega
    · rw [if_neg]; rw [tt]
      intro w
      exact z (Int.ediv_eq_zero_of_lt w.1 w.2)
/-- how many pairs of a set a plan parts -/
def paB (A : AS) (p s a b : Int) : Bool := bt s a.toNat && (bt s b.toNat && apB A a b (aV A 16 p) (aV A 17 p) (aV A 18 p) (aV A 19 p))
def paN (A : AS) (p s : Int) : Int := sm (fun a => sm (fun b => bI (paB A p s a b)) 0 a.toNat) 0 ((aV A 7 0)).toNat
theorem paN_b (h : RR x o A σ) : 0 ≤ paN A p s ∧ paN A p s ≤ 64 := by
  have n := R_n h
  have inn : ∀ a : Int, a < (aV A 7 0) → (0 ≤ sm (fun b => bI (paB A p s a b)) 0 a.toNat ∧ sm (fun b => bI (paB A p s a b)) 0 a.toNat ≤ 8) := by
    intro a ha
    constructor
    · exact sm_0 (fun k _ _ => by have := bI_b (paB A p s a k); omega)
    · have := sm_u (fun b => bI (paB A p s a b)) 0 1 (fun k => by have := bI_b (paB A p s a k); omega) a.toNat
      omega
  unfold paN
  constructor
  · exact sm_0 (fun k _ k2 => (inn k (by omega)).1)
  · have e := sm_cg (fun a => sm (fun b => bI (paB A p s a b)) 0 a.toNat) (fun a => if a < (aV A 7 0) then sm (fun b => bI (paB A p s a b)) 0 a.toNat else 0) 0 ((aV A 7 0)).toNat (fun k k1 k2 => by show _ = (if k < (aV A 7 0) then sm (fun b => bI (paB A p s k b)) 0 k.toNat else 0); rw [if_pos (by omega)])
    rw [e]
    have := sm_u (fun a => if a < (aV A 7 0) then sm (fun b => bI (paB A p s a b)) 0 a.toNat else 0) 0 8 (fun k => by
      show (if k < (aV A 7 0) then sm (fun b => bI (paB A p s k b)) 0 k.toNat else 0) ≤ 8
      split
      · rename_i q; exact (inn k q).2
      · omega) ((aV A 7 0)).toNat
    omega
theorem X1_partedBy (h : RR x o A σ) (p1 : 0 ≤ p) (p2 : p < (aV A 20 0)) : T (f_X1_partedBy σ x p s) (fun r => r.1 = paN A p s ∧ RR x o A r.2) := by
  have n := R_n h
  obtain ⟨pc, pd⟩ := h.2.1.2.2.1 p p1 p2
  have hd : isD A (aV A 16 p) (aV A 17 p) (aV A 18 p) (aV A 19 p) = true := isD_t.mpr ⟨pc, pd⟩
  unfold f_X1_partedBy
  rw [cO_t (R_x h)]
  refine T_lp (fun t => (0 ≤ t.2.1 ∧ t.2.1 ≤ (aV A 7 0)) ∧ t.1 = sm (fun a => sm (fun b => bI (paB A p s a b)) 0 a.toNat) 0 (t.2.1 - 0).toNat ∧ RR x o A t.2.2) (fun t => ((aV A 7 0) - t.2.1).toNat) ?_ ⟨by dsimp only; omega, rfl, h⟩
  intro ⟨v, a, σ1⟩ ⟨a1, ev, h⟩
  dsimp only at a1 ev h
  unfold f_X1_partedBy_b5
  simp only [T_cO, T_cLt, Rv0 h, Rv1 h, Rv6 h, Rv7 h, Rv9 h, Rv10 h, Rv13 h, Rv14 h, Rv15 h, Rv16 h, Rv17 h, Rv18 h, Rv19 h, Rv20 h, Rv23 h, Rv24 h, Rv25 h, Rv26 h, Rv27 h]
  refine ⟨R_x h, by omega, fun q => ?_, fun q => ?_⟩
  · have st := sm_at (fun a => sm (fun b => bI (paB A p s a b)) 0 a.toNat) a1.1
    refine T_lp (fun t => (0 ≤ t.2.1 ∧ t.2.1 ≤ a) ∧ t.1 = v + sm (fun b => bI (paB A p s a b)) 0 (t.2.1 - 0).toNat ∧ RR x o A t.2.2) (fun t => (a - t.2.1).toNat) ?_ ⟨by dsimp only; omega, by dsimp only; simp [sm], h⟩
    intro ⟨u, b, σ2⟩ ⟨b1, eu, h⟩
    dsimp only at b1 eu h
    have sb := sm_at (fun b => bI (paB A p s a b)) b1.1
    unfold f_X1_partedBy_b17
    simp only [T_cLt]
    refine ⟨by omega, fun q1 => ?_, fun q1 => ?_⟩
    · have eb : bAnd (bAnd (bShr s a) (bShr s b)) 1 = if bt s a.toNat && bt s b.toNat then 1 else 0 := by
        rw [and1, bt_and, bt_shr s (by omega) (by omega) 0 (by omega), bt_shr s (by omega) (by omega) 0 (by omega), Nat.zero_add, Nat.zero_add]
      rw [eb]
      simp only [T_cEq]
      refine ⟨by split <;> omega, fun z => ?_, fun z => ?_⟩
      · have zb : (bt s a.toNat && bt s b.toNat) = true := by
          cases w : (bt s a.toNat && bt s b.toNat) with
          | true => rfl
          | false => rw [w] at z; simp at z
        have zz := Bool.and_eq_true_iff.mp zb
        have pe : paB A p s a b = apB A a b (aV A 16 p) (aV A 17 p) (aV A 18 p) (aV A 19 p) := by unfold paB; rw [zz.1, zz.2]; rfl
        rw [(R_head h a1.1 q).1, (R_head h b1.1 (by omega)).1]
        simp only [T_cO, T_ck, T_nnS, T_bd2, Rv0 h, Rv1 h, Rv6 h, Rv7 h, Rv9 h, Rv10 h, Rv13 h, Rv14 h, Rv15 h, Rv16 h, Rv17 h, Rv18 h, Rv19 h, Rv20 h, Rv23 h, Rv24 h, Rv25 h, Rv26 h, Rv27 h]
        rw [(R_cal h pc.1 pc.2).1]
        simp only [T_ck, T_nnS, T_bd2]
        refine ⟨R_x h, by omega, by omega, by omega, by omega, by omega, by omega, by omega, T_mono (X1_partsAt h a1.1 q b1.1 (by omega) hd) (fun r ⟨e1, h1⟩ => ?_)⟩
        rw [e1, ← pe]
        have bb := bI_b (paB A p s a b)
        simp only [T_some, T_none, T_ck, T_cLt, T_cEq, T_jLt, T_jEq, T_bind, T_bd2, T_wS, T_cO, T_nnS, T_cNullN, T_cNullS, T_bT1, T_bT2, T_ex, T_ite, T_dC, Sum.elim_inl, Sum.elim_inr]
        refine ⟨by omega, fun z => ⟨⟨by omega, ?_, h1⟩, by omega⟩, fun z => ⟨⟨by omega, ?_, h1⟩, by omega⟩⟩
        · rw [sb, eu]; omega
        · rw [sb, eu]; omega
      · have zb : (bt s a.toNat && bt s b.toNat) = false := by
          cases w : (bt s a.toNat && bt s b.toNat) with
          | false => rfl
          | true => rw [w] at z; simp at z
        have pe : paB A p s a b = false := by unfold paB; rw [← Bool.and_assoc, zb]; rfl
        simp only [T_some, T_none, T_ck, T_cLt, T_cEq, T_jLt, T_jEq, T_bind, T_bd2, T_wS, T_cO, T_nnS, T_cNullN, T_cNullS, T_bT1, T_bT2, T_ex, T_ite, T_dC, Sum.elim_inl, Sum.elim_inr]
        refine ⟨⟨by omega, ?_, h⟩, by omega⟩
        rw [sb, eu, pe]; simp [bI]
    · simp only [T_some, T_none, T_ck, T_cLt, T_cEq, T_jLt, T_jEq, T_bind, T_bd2, T_wS, T_cO, T_nnS, T_cNullN, T_cNullS, T_bT1, T_bT2, T_ex, T_ite, T_dC, Sum.elim_inl, Sum.elim_inr]
      refine ⟨⟨by omega, ?_, h⟩, by omega⟩
      rw [st, eu, ev]; congr 2; omega
  · simp only [T_some, T_none, T_ck, T_cLt, T_cEq, T_jLt, T_jEq, T_bind, T_bd2, T_wS, T_cO, T_nnS, T_cNullN, T_cNullS, T_bT1, T_bT2, T_ex, T_ite, T_dC, Sum.elim_inl, Sum.elim_inr]
    refine ⟨?_, h⟩
    rw [ev]; unfold paN; congr 1; omega
theorem X6_partedBy (h : RR x o A σ) (p1 : 0 ≤ p) (p2 : p < (aV A 20 0)) : T (f_X6_partedBy σ o p s) (fun r => r.1 = paN A p s ∧ RR x o A r.2) := by
  have n := R_n h
  obtain ⟨pc, pd⟩ := h.2.1.2.2.1 p p1 p2
  have hd : isD A (aV A 16 p) (aV A 17 p) (aV A 18 p) (aV A 19 p) = true := isD_t.mpr ⟨pc, pd⟩
  unfold f_X6_partedBy
  rw [cO_t (R_o h)]
  refine T_lp (fun t => (0 ≤ t.2.1 ∧ t.2.1 ≤ (aV A 7 0)) ∧ t.1 = sm (fun a => sm (fun b => bI (paB A p s a b)) 0 a.toNat) 0 (t.2.1 - 0).toNat ∧ RR x o A t.2.2) (fun t => ((aV A 7 0) - t.2.1).toNat) ?_ ⟨by dsimp only; omega, rfl, h⟩
  intro ⟨v, a, σ1⟩ ⟨a1, ev, h⟩
  dsimp only at a1 ev h
  unfold f_X6_partedBy_b5
  rw [R_nh h]
  simp only [T_cO, T_cLt]
  refine ⟨R_o h, by omega, fun q => ?_, fun q => ?_⟩
  · have st := sm_at (fun a => sm (fun b => bI (paB A p s a b)) 0 a.toNat) a1.1
    refine T_lp (fun t => (0 ≤ t.2.1 ∧ t.2.1 ≤ a) ∧ t.1 = v + sm (fun b => bI (paB A p s a b)) 0 (t.2.1 - 0).toNat ∧ RR x o A t.2.2) (fun t => (a - t.2.1).toNat) ?_ ⟨by dsimp only; omega, by dsimp only; simp [sm], h⟩
    intro ⟨u, b, σ2⟩ ⟨b1, eu, h⟩
    dsimp only at b1 eu h
    have sb := sm_at (fun b => bI (paB A p s a b)) b1.1
    unfold f_X6_partedBy_b17 f_X6_partedBy_j48 f_X6_partedBy_j49
    rw [shr_and_bit (x := s) (k := a) (by omega) (by omega), shr_and_bit (x := s) (k := b) (by omega) (by omega)]
    obtain ⟨k1, k2, k3, k4⟩ := h.2.2.2.2.2.2.2.2.1 p p1 p2
    rw [k1, k2, k3, k4]
    simp only [T_cLt, T_cEq]
    have no : paB A p s a b = false → ((0 ≤ b + 1 ∧ b + 1 ≤ a) ∨ ¬ b < a) → (b < a → (((0 ≤ b + 1 ∧ b + 1 ≤ a) ∧ u + 0 = v + sm (fun b => bI (paB A p s a b)) 0 (b + 1 - 0).toNat ∧ RR x o A σ2) ∧ (a - (b + 1)).toNat < (a - b).toNat)) := by
      intro pe _ q1
      refine ⟨⟨by omega, ?_, h⟩, by omega⟩
      rw [sb, eu, pe]; simp [bI]
    refine ⟨by omega, fun q1 => ⟨by split <;> omega, fun z => ⟨by split <;> omega, fun z1 => ⟨by omega, fun q => by omega, fun _ => ?_⟩, fun z1 => ⟨by omega, fun _ => ?_, fun q => absurd trivial q⟩⟩, fun z => ⟨by omega, fun _ => ?_, fun q => absurd trivial q⟩⟩, fun q1 => ?_⟩
    · have za : bt s a.toNat = true := by
        cases w : bt s a.toNat with
        | true => rfl
        | false => rw [w] at z; simp at z
      have zb : bt s b.toNat = true := by
        cases w : bt s b.toNat with
        | true => rfl
        | false => rw [w] at z1; simp at z1
      have pe : paB A p s a b = apB A a b (aV A 16 p) (aV A 17 p) (aV A 18 p) (aV A 19 p) := by unfold paB; rw [za, zb]; rfl
      simp only [T_cO, T_ck, T_bd2]
      refine ⟨R_o h, by omega, by omega, by omega, by omega, T_mono (X6_areApart h a1.1 q b1.1 (by omega) hd) (fun r ⟨e1, h1⟩ => ?_)⟩
      rw [e1, ← pe]
      have bb := bI_b (paB A p s a b)
      simp only [T_some, T_none, T_ck, T_cLt, T_cEq, T_jLt, T_jEq, T_bind, T_bd2, T_wS, T_cO, T_nnS, T_cNullN, T_cNullS, T_bT1, T_bT2, T_ex, T_ite, T_dC, Sum.elim_inl, Sum.elim_inr]
      refine ⟨by omega, fun z => ⟨⟨by omega, ?_, h1⟩, by omega⟩, fun z => ⟨⟨by omega, ?_, h1⟩, by omega⟩⟩
      · rw [sb, eu]; omega
      · rw [sb, eu]; omega
    · have zb : bt s b.toNat = false := by
        cases w : bt s b.toNat with
        | false => rfl
        | true => rw [w] at z1; simp at z1
      simp only [T_some, Sum.elim_inl]
      exact no (by unfold paB; rw [zb]; simp) (Or.inl (by omega)) q1
    · have za : bt s a.toNat = false := by
        cases w : bt s a.toNat with
        | false => rfl
        | true => rw [w] at z; simp at z
      simp only [T_some, Sum.elim_inl]
      exact no (by unfold paB; rw [za]; simp) (Or.inl (by omega)) q1
    · simp only [T_some, T_none, T_ck, T_cLt, T_cEq, T_jLt, T_jEq, T_bind, T_bd2, T_wS, T_cO, T_nnS, T_cNullN, T_cNullS, T_bT1, T_bT2, T_ex, T_ite, T_dC, Sum.elim_inl, Sum.elim_inr]
      refine ⟨⟨by omega, ?_, h⟩, by omega⟩
      rw [st, eu, ev]; congr 2; omega
  · simp only [T_some, T_none, T_ck, T_cLt, T_cEq, T_jLt, T_jEq, T_bind, T_bd2, T_wS, T_cO, T_nnS, T_cNullN, T_cNullS, T_bT1, T_bT2, T_ex, T_ite, T_dC, Sum.elim_inl, Sum.elim_inr]
    refine ⟨?_, h⟩
    rw [ev]; unfold paN; congr 1; omega
def prV (A : AS) (p s : Int) : Int := if isB p 0 ((aV A 20 0) - 1) && hsB A s then paN A p s else -1
theorem R_np (h : RR x o A σ) : gI σ o 54 0 = (aV A 20 0) := h.2.2.2.1.2.2.2.2.2.1
theorem O_partedX (h : RR x o A σ) (hp : inR p) (hs : inR s) : T (f_X1_parted σ x p s) (fun r => r.1 = prV A p s ∧ RR x o A r.2) := by
  have n := R_n h
  unfold f_X1_parted prV
  rw [cO_t (R_x h), Rv20 h]
  simp only [T_bind, T_some, T_cEq, bI_R, true_and, bI_0, Bool.not_eq_false, T_ck, X1_isB (by omega : inL p) (by omega : inL 0) (by omega : inL ((aV A 20 0) - 1)), X1_areHeads h hs, T_bd2]
  refine ⟨hp, by omega, fun e => ⟨by rw [e]; rfl, h⟩, fun e => ⟨fun e1 => ⟨by rw [e1]; simp, h⟩, fun e1 => ?_⟩⟩
  have pb := isB_t.mp e
  rw [e, e1]
  exact T_mono (X1_partedBy h pb.1 (by omega)) (fun r ⟨q1, q2⟩ => ⟨q1, q2⟩)
theorem O_partedM (h : RR x o A σ) (hp : inR p) (hs : inR s) : T (f_X6_parted σ o p s) (fun r => r.1 = prV A p s ∧ RR x o A r.2) := by
  have n := R_n h
  unfold f_X6_parted prV
  rw [cO_t (R_o h), R_np h]
  simp only [T_bind, T_some, T_cEq, bI_R, true_and, bI_0, Bool.not_eq_false, X6_isB hp (by omega : inR 0) (by omega : inR ((aV A 20 0) - 1)), X6_areHeads h hs, T_bd2]
  refine ⟨fun e => ⟨by rw [e]; rfl, h⟩, fun e => ⟨fun e1 => ⟨by rw [e1]; simp, h⟩, fun e1 => ?_⟩⟩
  have pb := isB_t.mp e
  rw [e, e1]
  exact T_mono (X6_partedBy h pb.1 (by omega)) (fun r ⟨q1, q2⟩ => ⟨q1, q2⟩)
theorem prV_R (h : RR x o A σ) : inR (prV A p s) := by
  have := paN_b h (p := p) (s := s)
  unfold prV; split <;> constructor <;> omega
/-- next -/
def neF (A : AS) (s : Int) (b p : Int) : Int := if paN A b s < paN A p s then p else b
def neV (A : AS) (s : Int) : Int := if hsB A s && decide (¬ (aV A 20 0) = 0) then fo (neF A s) 0 1 ((aV A 20 0) - 1).toNat else -1
theorem neF_b : ∀ n : Nat, 0 ≤ fo (neF A s) 0 1 n ∧ fo (neF A s) 0 1 n ≤ n
  | 0 => by simp [fo]
  | n + 1 => by
    have ih := neF_b n
    rw [fo_s]
    unfold neF at ih ⊢
    split <;> omega
theorem O_nextX (h : RR x o A σ) (hs : inR s) : T (f_X1_next σ x s) (fun r => r.1 = neV A s ∧ RR x o A r.2) := by
  have n := R_n h
  unfold f_X1_next neV
  rw [cO_t (R_x h), Rv20 h]
  simp only [T_cEq, T_some, T_bind, X1_areHeads h hs, bI_R, true_and, bI_0, Bool.not_eq_false]
  refine ⟨by omega, fun z => ⟨by simp [z], h⟩, fun z => ⟨fun e => ⟨by rw [e]; rfl, h⟩, fun e => ?_⟩⟩
  rw [e, decide_eq_true z]
  refine T_lp (fun t => (1 ≤ t.2.1 ∧ t.2.1 ≤ (aV A 20 0)) ∧ t.1 = fo (neF A s) 0 1 (t.2.1 - 1).toNat ∧ RR x o A t.2.2) (fun t => ((aV A 20 0) - t.2.1).toNat) ?_ ⟨by dsimp only; omega, rfl, h⟩
  intro ⟨b, p, σ1⟩ ⟨p1, eb, h⟩
  dsimp only at p1 eb h
  have bb := neF_b (A := A) (s := s) (p - 1).toNat
  rw [← eb] at bb
  unfold f_X1_next_b21
  rw [Rv20 h]
  simp only [T_cO, T_cLt, T_bd2]
  refine ⟨R_x h, by omega, fun q => ?_, fun q => ?_⟩
  · have st := fo_at (neF A s) 0 p1.1
    refine T_mono (X1_partedBy h (by omega) q) (fun r ⟨e1, h1⟩ => ?_)
    refine ⟨R_x h1, T_mono (X1_partedBy h1 bb.1 (by omega)) (fun r2 ⟨e2, h2⟩ => ?_)⟩
    have b1 := paN_b h (p := p) (s := s)
    have b2 := paN_b h (p := b) (s := s)
    rw [e1, e2]
    simp only [T_some, Sum.elim_inl]
    refine ⟨by omega, fun z => ⟨⟨by omega, ?_, h2⟩, by omega⟩, fun z => ⟨⟨by omega, ?_, h2⟩, by omega⟩⟩
    · rw [st, ← eb]; unfold neF; rw [if_pos z]
    · rw [st, ← eb]; unfold neF; rw [if_neg z]
  · simp only [T_some, T_none, T_ck, T_cLt, T_cEq, T_jLt, T_jEq, T_bind, T_bd2, T_wS, T_cO, T_nnS, T_cNullN, T_cNullS, T_bT1, T_bT2, T_ex, T_ite, T_dC, Sum.elim_inl, Sum.elim_inr]
    refine ⟨?_, h⟩
    rw [eb]; simp; congr 1; omega
theorem O_nextM (h : RR x o A σ) (hs : inR s) : T (f_X6_next σ o s) (fun r => r.1 = neV A s ∧ RR x o A r.2) := by
  have n := R_n h
  unfold f_X6_next neV
  rw [cO_t (R_o h)]
  simp only [T_cEq, T_some, T_bind, X6_areHeads h hs, bI_R, true_and, bI_0, Bool.not_eq_false]
  refine ⟨fun e => ⟨by rw [e]; rfl, h⟩, fun e => ?_⟩
  rw [e]
  refine T_lp (fun t => (0 ≤ t.2.2.1 ∧ t.2.2.1 ≤ (aV A 20 0)) ∧ ((t.2.2.1 = 0 ∧ t.1 = -1 ∧ t.2.1 = -1) ∨ (1 ≤ t.2.2.1 ∧ t.1 = fo (neF A s) 0 1 (t.2.2.1 - 1).toNat ∧ t.2.1 = paN A t.1 s)) ∧ RR x o A t.2.2.2) (fun t => ((aV A 20 0) - t.2.2.1).toNat) ?_ ⟨by dsimp only; omega, Or.inl ⟨rfl, rfl, rfl⟩, h⟩
  intro ⟨b, mo, p, σ1⟩ ⟨p1, eb, h⟩
  dsimp only at p1 eb h
  unfold f_X6_next_b17 f_X6_next_j47
  rw [R_np h]
  simp only [T_cO, T_cLt, T_bd2]
  have mb : -1 ≤ mo ∧ mo ≤ 64 := by
    rcases eb with ⟨_, _, e⟩ | ⟨_, _, e⟩
    · omega
    · rw [e]; have := paN_b h (p := b) (s := s); omega
  refine ⟨R_o h, by omega, fun q => ?_, fun q => ?_⟩
  · refine T_mono (X6_partedBy h p1.1 q) (fun r ⟨e1, h1⟩ => ?_)
    have b1 := paN_b h (p := p) (s := s)
    rw [e1, J3_max (by omega) (by omega)]
    simp only [T_some, T_none, T_ck, T_cLt, T_cEq, T_jLt, T_jEq, T_bind, T_bd2, T_wS, T_cO, T_nnS, T_cNullN, T_cNullS, T_bT1, T_bT2, T_ex, T_ite, T_dC, Sum.elim_inl, Sum.elim_inr]
    have key : ∀ t, t = (if mo < paN A p s then p else b) → ((0 ≤ p + 1 ∧ p + 1 ≤ (aV A 20 0)) ∧ ((p + 1 = 0 ∧ t = -1 ∧ max mo (paN A p s) = -1) ∨ (1 ≤ p + 1 ∧ t = fo (neF A s) 0 1 (p + 1 - 1).toNat ∧ max mo (paN A p s) = paN A t s)) ∧ RR x o A r.2) ∧ ((aV A 20 0) - (p + 1)).toNat < ((aV A 20 0) - p).toNat := by
      intro t et
      refine ⟨⟨by omega, Or.inr ⟨by omega, ?_, ?_⟩, h1⟩, by omega⟩
      · rcases eb with ⟨e0, e2, e3⟩ | ⟨e0, e2, e3⟩
        · rw [et, if_pos (by omega), e0]; rfl
        · rw [fo_at _ _ e0, ← e2, et]; unfold neF; rw [e3]
      · rw [et]
        split
        · omega
        · rename_i w
          rcases eb with ⟨e0, e2, e3⟩ | ⟨e0, e2, e3⟩
          · omega
          · omega
    refine ⟨by omega, fun z => key p (by rw [if_pos z]), fun z => key b (by rw [if_neg z])⟩
  · simp only [T_some, T_none, T_ck, T_cLt, T_cEq, T_jLt, T_jEq, T_bind, T_bd2, T_wS, T_cO, T_nnS, T_cNullN, T_cNullS, T_bT1, T_bT2, T_ex, T_ite, T_dC, Sum.elim_inl, Sum.elim_inr]
    refine ⟨?_, h⟩
    rcases eb with ⟨e0, e2, e3⟩ | ⟨e0, e2, e3⟩
    · have : (aV A 20 0) = 0 := by omega
      rw [e2]; simp [this]
    · have : ¬ (aV A 20 0) = 0 := by omega
      rw [e2, decide_eq_true this]; simp; congr 1; omega
theorem neV_R (h : RR x o A σ) : inR (neV A s) := by
  have n := R_n h
  have := neF_b (A := A) (s := s) ((aV A 20 0) - 1).toNat
  unfold neV; split <;> constructor <;> omega
end
