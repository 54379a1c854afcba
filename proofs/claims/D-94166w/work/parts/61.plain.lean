/-! heads against asks -/
set_option maxRecDepth 100000
def soB (A : AS) (g k s : Int) : Bool := goC (aH A g) (aC A (aQ A 1 k)) (aQ A 2 k) (aQ A 3 k) && (decide (ansC (aH A g) (aC A (aQ A 1 k)) (aQ A 2 k) (aQ A 3 k) (aQ A 4 k) = aQ A 6 k) && decide (((tenC (aH A g) (aC A (aQ A 1 k)) (aQ A 2 k) (aQ A 3 k) (aQ A 4 k) - aQ A 7 k).natAbs : Int) ≤ s))
def soN (A : AS) (g s : Int) : Int := sm (fun k => bI (soB A g k s)) 0 ((aV A 13 0)).toNat
section
variable {σ : St} {x o a b : Nat} {A : AS} {g c y m d v k s : Int} {C C' : Cal}
theorem X1_isSo (h : RR x o A σ) (g1 : 0 ≤ g) (g2 : g < (aV A 7 0)) (k1 : 0 ≤ k) (k2 : k < (aV A 13 0)) (hs : inR s) : T (f_X1_isSo σ x (aHa A g) (aAa A k) s) (fun r => r.1 = bI (soB A g k s) ∧ RR x o A r.2) := by
  have n := R_n h
  obtain ⟨q1, q2, q3⟩ := R_q h k1 k2
  obtain ⟨r0, r1, r2, r3, r4⟩ := R_qa h k1 k2
  obtain ⟨⟨y1, y2⟩, ⟨m1, m2⟩, d1, d2⟩ := hasC_i r0.2
  have hO := R_hO h g1 g2
  have c1 := r0.1
  unfold f_X1_isSo soB
  rw [cO_t (R_x h), cO_t q2, q3 1 (by omega), q3 2 (by omega), q3 3 (by omega), ck_t (by omega), (R_cal h r0.1.1 r0.1.2).1]
  simp only [T_nnS, T_bd2]
  refine T_mono (X1_hasWay h g1 g2 r0.1.1 r0.1.2 y1 y2 m1 m2) (fun r ⟨e1, h1⟩ => ?_)
  rw [e1]
  simp only [T_cEq, bI_R, true_and, bI_0, Bool.not_eq_false, T_some]
  refine ⟨fun z => ⟨by rw [z]; rfl, h1⟩, fun z => ?_⟩
  obtain ⟨_, p2, p3⟩ := R_q h1 k1 k2
  rw [z, cO_t p2, p3 2 (by omega), p3 3 (by omega), p3 4 (by omega)]
  simp only [T_bd2]
  refine T_mono (X1_answerOf h1 g1 g2 r0.1.1 r0.1.2 y1 y2 m1 m2 d1 d2 z) (fun r ⟨e2, h2⟩ => ?_)
  obtain ⟨_, t2, t3⟩ := R_q h2 k1 k2
  have ab := ansC_b (H := aH A g) (C := aC A (aQ A 1 k)) (y := aQ A 2 k) (m := aQ A 3 k) (d := aQ A 4 k)
  have tb := tenC_b hO (C := aC A (aQ A 1 k)) y1 y2 m1 m2 d1 d2 (goC_t z).1
  rw [e2, cO_t t2, t3 6 (by omega), t3 2 (by omega), t3 3 (by omega), t3 4 (by omega)]
  simp only [T_cEq, T_bd2, T_some]
  refine ⟨by omega, fun w => ?_, fun w => ⟨?_, h2⟩⟩
  · refine T_mono (X1_tenthsOf h2 g1 g2 r0.1.1 r0.1.2 y1 y2 m1 m2 d1 d2 (goC_t z).1) (fun r ⟨e3, h3⟩ => ?_)
    obtain ⟨_, u2, u3⟩ := R_q h3 k1 k2
    rw [e3, cO_t u2, u3 7 (by omega), J3_abs (by omega)]
    simp only [T_some, T_none, T_ck, T_cLt, T_cEq, T_jLt, T_jEq, T_bind, T_bd2, T_wS, T_cO, T_nnS, T_cNullN, T_cNullS, T_bT1, T_bT2, T_ex, T_ite, T_dC, Sum.elim_inl, Sum.elim_inr]
    refine ⟨by omega, fun w1 => ⟨?_, h3⟩, fun w1 => ⟨?_, h3⟩⟩
    · rw [decide_eq_true w, decide_eq_false (by omega)]; rfl
    · rw [decide_eq_true w, decide_eq_true (by omega)]; rfl
  · rw [decide_eq_false w]; rfl
theorem X6_isSo (h : RR x o A σ) (g1 : 0 ≤ g) (g2 : g < (aV A 7 0)) (k1 : 0 ≤ k) (k2 : k < (aV A 13 0)) (hs : inR s) : T (f_X6_isSo σ o g k s) (fun r => r.1 = bI (soB A g k s) ∧ RR x o A r.2) := by
  have n := R_n h
  obtain ⟨q1, q2, q3, q4, q5, q6, q7⟩ := R_mq h k1 k2
  obtain ⟨r0, r1, r2, r3, r4⟩ := R_qa h k1 k2
  obtain ⟨⟨y1, y2⟩, ⟨m1, m2⟩, d1, d2⟩ := hasC_i r0.2
  have hO := R_hO h g1 g2
  unfold f_X6_isSo soB
  rw [cO_t (R_o h), ck_t (by omega), ck_t (by omega), ck_t (by omega), ck_t (by omega), q2, q3, q4, q5]
  simp only [T_bd2]
  refine T_mono (X6_answer h g1 g2 r0.1.1 r0.1.2 y1 y2 m1 m2 d1 d2) (fun r ⟨e1, f1, va, _⟩ => ?_)
  have h1 := RR_sc h f1
  rw [e1]
  simp only [T_cEq, bI_R, true_and, bI_0, Bool.not_eq_false, T_some]
  refine ⟨fun z => ⟨by rw [z]; rfl, h1⟩, fun z => ?_⟩
  obtain ⟨v1, v2⟩ := va z
  obtain ⟨_, _, _, _, _, p6, p7⟩ := R_mq h1 k1 k2
  have ab := ansC_b (H := aH A g) (C := aC A (aQ A 1 k)) (y := aQ A 2 k) (m := aQ A 3 k) (d := aQ A 4 k)
  have tb := tenC_b hO (C := aC A (aQ A 1 k)) y1 y2 m1 m2 d1 d2 (goC_t z).1
  rw [z, cO_t (R_o h1), v1, v2, p6, p7, J3_abs (by omega)]
  simp only [T_some, T_none, T_ck, T_cLt, T_cEq, T_jLt, T_jEq, T_bind, T_bd2, T_wS, T_cO, T_nnS, T_cNullN, T_cNullS, T_bT1, T_bT2, T_ex, T_ite, T_dC, Sum.elim_inl, Sum.elim_inr]
  refine ⟨by omega, by omega, fun w => ⟨by omega, by omega, fun w1 => ⟨?_, h1⟩, fun w1 => ⟨?_, h1⟩⟩, fun w => ⟨?_, h1⟩⟩
  · rw [decide_eq_true w, decide_eq_false (by omega)]; rfl
  · rw [decide_eq_true w, decide_eq_true (by omega)]; rfl
  · rw [decide_eq_false w]; rfl
theorem soN_b (h : RR x o A σ) : 0 ≤ soN A g s ∧ soN A g s ≤ 60 := by
  have n := R_n h
  unfold soN
  constructor
  · exact sm_0 (fun k _ _ => by have := bI_b (soB A g k s); omega)
  · have := sm_u (fun k => bI (soB A g k s)) 0 1 (fun k => by have := bI_b (soB A g k s); omega) ((aV A 13 0)).toNat
    omega
theorem X1_soMany (h : RR x o A σ) (g1 : 0 ≤ g) (g2 : g < (aV A 7 0)) (hs : inR s) : T (f_X1_soMany σ x (aHa A g) s) (fun r => r.1 = soN A g s ∧ RR x o A r.2) := by
  have n := R_n h
  unfold f_X1_soMany
  rw [cO_t (R_x h)]
  refine T_lp (fun t => (0 ≤ t.2.1 ∧ t.2.1 ≤ (aV A 13 0)) ∧ t.1 = sm (fun k => bI (soB A g k s)) 0 (t.2.1 - 0).toNat ∧ RR x o A t.2.2) (fun t => ((aV A 13 0) - t.2.1).toNat) ?_ ⟨by dsimp only; omega, rfl, h⟩
  intro ⟨v, k, σ1⟩ ⟨k1, e, h⟩
  dsimp only at k1 e h
  unfold f_X1_soMany_b5
  simp only [T_cO, T_cLt, Rv0 h, Rv1 h, Rv6 h, Rv7 h, Rv9 h, Rv10 h, Rv13 h, Rv14 h, Rv15 h, Rv16 h, Rv17 h, Rv18 h, Rv19 h, Rv20 h, Rv23 h, Rv24 h, Rv25 h, Rv26 h, Rv27 h]
  refine ⟨R_x h, by omega, fun q => ?_, fun q => ?_⟩
  · rw [(R_q h k1.1 q).1]
    have st := sm_at (fun k => bI (soB A g k s)) k1.1
    simp only [T_ck, T_nnS, T_bd2]
    refine ⟨by omega, T_mono (X1_isSo h g1 g2 k1.1 q hs) (fun r ⟨e1, h1⟩ => ?_)⟩
    have bb := bI_b (soB A g k s)
    rw [e1]
    simp only [T_some, T_none, T_ck, T_cLt, T_cEq, T_jLt, T_jEq, T_bind, T_bd2, T_wS, T_cO, T_nnS, T_cNullN, T_cNullS, T_bT1, T_bT2, T_ex, T_ite, T_dC, Sum.elim_inl, Sum.elim_inr]
    refine ⟨by omega, fun z => ⟨⟨by omega, ?_, h1⟩, by omega⟩, fun z => ⟨⟨by omega, ?_, h1⟩, by omega⟩⟩
    · rw [st, e]; omega
    · rw [st, e]; omega
  · simp only [T_some, T_none, T_ck, T_cLt, T_cEq, T_jLt, T_jEq, T_bind, T_bd2, T_wS, T_cO, T_nnS, T_cNullN, T_cNullS, T_bT1, T_bT2, T_ex, T_ite, T_dC, Sum.elim_inl, Sum.elim_inr]
    refine ⟨?_, h⟩
    rw [e]; unfold soN; congr 1; omega
theorem X6_soMany (h : RR x o A σ) (g1 : 0 ≤ g) (g2 : g < (aV A 7 0)) (hs : inR s) : T (f_X6_soMany σ o g s) (fun r => r.1 = soN A g s ∧ RR x o A r.2) := by
  have n := R_n h
  unfold f_X6_soMany
  rw [cO_t (R_o h)]
  refine T_lp (fun t => (0 ≤ t.2.1 ∧ t.2.1 ≤ (aV A 13 0)) ∧ t.1 = sm (fun k => bI (soB A g k s)) 0 (t.2.1 - 0).toNat ∧ RR x o A t.2.2) (fun t => ((aV A 13 0) - t.2.1).toNat) ?_ ⟨by dsimp only; omega, rfl, h⟩
  intro ⟨v, k, σ1⟩ ⟨k1, e, h⟩
  dsimp only at k1 e h
  unfold f_X6_soMany_b5
  rw [R_nq h]
  simp only [T_cO, T_cLt]
  refine ⟨R_o h, by omega, fun q => ?_, fun q => ?_⟩
  · have st := sm_at (fun k => bI (soB A g k s)) k1.1
    simp only [T_bd2]
    refine T_mono (X6_isSo h g1 g2 k1.1 q hs) (fun r ⟨e1, h1⟩ => ?_)
    have bb := bI_b (soB A g k s)
    rw [e1]
    simp only [T_some, T_none, T_ck, T_cLt, T_cEq, T_jLt, T_jEq, T_bind, T_bd2, T_wS, T_cO, T_nnS, T_cNullN, T_cNullS, T_bT1, T_bT2, T_ex, T_ite, T_dC, Sum.elim_inl, Sum.elim_inr]
    refine ⟨by omega, fun z => ⟨⟨by omega, ?_, h1⟩, by omega⟩, fun z => ⟨⟨by omega, ?_, h1⟩, by omega⟩⟩
    · rw [st, e]; omega
    · rw [st, e]; omega
  · simp only [T_some, T_none, T_ck, T_cLt, T_cEq, T_jLt, T_jEq, T_bind, T_bd2, T_wS, T_cO, T_nnS, T_cNullN, T_cNullS, T_bT1, T_bT2, T_ex, T_ite, T_dC, Sum.elim_inl, Sum.elim_inr]
    refine ⟨?_, h⟩
    rw [e]; unfold soN; congr 1; omega
/-- so -/
def soV (A : AS) (g s : Int) : Int := if isH A g && isB s 0 999 then soN A g s else -1
theorem O_soX (h : RR x o A σ) (hg : inR g) (hs : inR s) : T (f_X1_so σ x g s) (fun r => r.1 = soV A g s ∧ RR x o A r.2) := by
  have n := R_n h
  unfold f_X1_so soV
  rw [cO_t (R_x h)]
  simp only [T_bind, T_some, T_cEq, bI_R, true_and, bI_0, Bool.not_eq_false, X1_isHead h hg, X1_isSlack hs]
  refine ⟨fun e => ⟨by rw [e]; rfl, h⟩, fun e => ⟨fun e1 => ⟨by rw [e1]; simp, h⟩, fun e1 => ?_⟩⟩
  have q := isH_t.mp e
  rw [(R_head h q.1 q.2).1, e, e1]
  simp only [T_ck, T_nnS, T_bd2, T_some]
  exact ⟨by omega, T_mono (X1_soMany h q.1 q.2 hs) (fun r ⟨e2, h2⟩ => ⟨e2, h2⟩)⟩
theorem O_soM (h : RR x o A σ) (hg : inR g) (hs : inR s) : T (f_X6_so σ o g s) (fun r => r.1 = soV A g s ∧ RR x o A r.2) := by
  have n := R_n h
  unfold f_X6_so soV
  rw [cO_t (R_o h)]
  simp only [T_bind, T_some, T_cEq, bI_R, true_and, bI_0, Bool.not_eq_false, X6_isHead h hg, X6_isSlack hs]
  refine ⟨fun e => ⟨by rw [e]; rfl, h⟩, fun e => ⟨fun e1 => ⟨by rw [e1]; simp, h⟩, fun e1 => ?_⟩⟩
  have q := isH_t.mp e
  rw [e, e1]
  simp only [T_bd2, T_some]
  exact T_mono (X6_soMany h q.1 q.2 hs) (fun r ⟨e2, h2⟩ => ⟨e2, h2⟩)
theorem soV_R (h : RR x o A σ) : inR (soV A g s) := by
  have := soN_b h (g := g) (s := s)
  unfold soV; split <;> constructor <;> omega
theorem R_nh (h : RR x o A σ) : gI σ o 28 0 = (aV A 7 0) := h.2.2.2.1.2.2.2.1
/-- fits -/
def fiF (A : AS) (s : Int) (b k : Int) : Int := if soN A k s = (aV A 13 0) then bOr b (bShl 1 k) else bOr b 0
def fiV (A : AS) (s : Int) : Int := if isB s 0 999 then fo (fiF A s) 0 0 ((aV A 7 0)).toNat else -1
theorem O_fitsX (h : RR x o A σ) (hs : inR s) : T (f_X1_fits σ x s) (fun r => r.1 = fiV A s ∧ RR x o A r.2) := by
  have n := R_n h
  unfold f_X1_fits fiV
  rw [cO_t (R_x h)]
  simp only [T_bind, T_some, T_cEq, bI_R, true_and, bI_0, Bool.not_eq_false, X1_isSlack hs]
  refine ⟨fun e => ⟨by rw [e]; rfl, h⟩, fun e => ?_⟩
  rw [e]
  refine T_lp (fun t => (0 ≤ t.2.1 ∧ t.2.1 ≤ (aV A 7 0)) ∧ t.1 = fo (fiF A s) 0 0 (t.2.1 - 0).toNat ∧ RR x o A t.2.2) (fun t => ((aV A 7 0) - t.2.1).toNat) ?_ ⟨by dsimp only; omega, rfl, h⟩
  intro ⟨v, k, σ1⟩ ⟨k1, e, h⟩
  dsimp only at k1 e h
  unfold f_X1_fits_b13
  simp only [T_cO, T_cLt, Rv0 h, Rv1 h, Rv6 h, Rv7 h, Rv9 h, Rv10 h, Rv13 h, Rv14 h, Rv15 h, Rv16 h, Rv17 h, Rv18 h, Rv19 h, Rv20 h, Rv23 h, Rv24 h, Rv25 h, Rv26 h, Rv27 h]
  refine ⟨R_x h, by omega, fun q => ?_, fun q => ?_⟩
  · have st := fo_at (fiF A s) 0 k1.1
    have sb := soN_b h (g := k) (s := s)
    rw [(R_head h k1.1 q).1]
    simp only [T_ck, T_nnS, T_bd2]
    refine ⟨by omega, T_mono (X1_soMany h k1.1 q hs) (fun r ⟨e1, h1⟩ => ?_)⟩
    rw [e1, Rv13 h1]
    simp only [T_some, T_none, T_ck, T_cLt, T_cEq, T_jLt, T_jEq, T_bind, T_bd2, T_wS, T_cO, T_nnS, T_cNullN, T_cNullS, T_bT1, T_bT2, T_ex, T_ite, T_dC, Sum.elim_inl, Sum.elim_inr]
    refine ⟨R_x h1, by omega, fun z => ⟨⟨by omega, ?_, h1⟩, by omega⟩, fun z => ⟨⟨by omega, ?_, h1⟩, by omega⟩⟩
    · rw [st, ← e]; unfold fiF; rw [if_pos z]
    · rw [st, ← e]; unfold fiF; rw [if_neg z]
  · simp only [T_some, T_none, T_ck, T_cLt, T_cEq, T_jLt, T_jEq, T_bind, T_bd2, T_wS, T_cO, T_nnS, T_cNullN, T_cNullS, T_bT1, T_bT2, T_ex, T_ite, T_dC, Sum.elim_inl, Sum.elim_inr]
    refine ⟨?_, h⟩
    rw [e]; simp; congr 1; omega
theorem O_fitsM (h : RR x o A σ) (hs : inR s) : T (f_X6_fits σ o s) (fun r => r.1 = fiV A s ∧ RR x o A r.2) := by
  have n := R_n h
  unfold f_X6_fits fiV
  rw [cO_t (R_o h)]
  simp only [T_bind, T_some, T_cEq, bI_R, true_and, bI_0, Bool.not_eq_false, X6_isSlack hs]
  refine ⟨fun e => ⟨by rw [e]; rfl, h⟩, fun e => ?_⟩
  rw [e]
  refine T_lp (fun t => (0 ≤ t.2.1 ∧ t.2.1 ≤ (aV A 7 0)) ∧ t.1 = fo (fiF A s) 0 0 (t.2.1 - 0).toNat ∧ RR x o A t.2.2) (fun t => ((aV A 7 0) - t.2.1).toNat) ?_ ⟨by dsimp only; omega, rfl, h⟩
  intro ⟨v, k, σ1⟩ ⟨k1, e, h⟩
  dsimp only at k1 e h
  unfold f_X6_fits_b14
  rw [R_nh h]
  simp only [T_cO, T_cLt]
  refine ⟨R_o h, by omega, fun q => ?_, fun q => ?_⟩
  · have st := fo_at (fiF A s) 0 k1.1
    have sb := soN_b h (g := k) (s := s)
    simp only [T_bd2]
    refine T_mono (X6_soMany h k1.1 q hs) (fun r ⟨e1, h1⟩ => ?_)
    rw [e1, R_nq h1]
    simp only [T_some, T_none, T_ck, T_cLt, T_cEq, T_jLt, T_jEq, T_bind, T_bd2, T_wS, T_cO, T_nnS, T_cNullN, T_cNullS, T_bT1, T_bT2, T_ex, T_ite, T_dC, Sum.elim_inl, Sum.elim_inr]
    refine ⟨R_o h1, by omega, fun z => ⟨⟨by omega, ?_, h1⟩, by omega⟩, fun z => ⟨⟨by omega, ?_, h1⟩, by omega⟩⟩
    · rw [st, ← e]; unfold fiF; rw [if_pos z]
    · rw [st, ← e]; unfold fiF; rw [if_neg z]
  · simp only [T_some, T_none, T_ck, T_cLt, T_cEq, T_jLt, T_jEq, T_bind, T_bd2, T_wS, T_cO, T_nnS, T_cNullN, T_cNullS, T_bT1, T_bT2, T_ex, T_ite, T_dC, Sum.elim_inl, Sum.elim_inr]
    refine ⟨?_, h⟩
    rw [e]; simp; congr 1; omega
theorem fo_R {f : Int → Int → Int} {a lo : Int} (ha : inR a) (hf : ∀ b k, inR (f b k)) (n : Nat) : inR (fo f a lo n) := by
  cases n with
  | zero => exact ha
  | succ n => exact hf _ _
theorem fiV_R : inR (fiV A s) := by
  unfold fiV
  split
  · exact fo_R (by omega) (fun b k => by unfold fiF; split <;> exact bOr_R _ _) _
  · omega
/-- spare -/
def spF (A : AS) (s w : Int) (b k : Int) : Int := if w < (aV A 13 0) - soN A k s then bOr b 0 else bOr b (bShl 1 k)
def spV (A : AS) (s w : Int) : Int := if isB s 0 999 && isB w 0 60 then fo (spF A s w) 0 0 ((aV A 7 0)).toNat else -1
theorem O_spareX {w : Int} (h : RR x o A σ) (hs : inR s) (hw : inR w) : T (f_X1_spare σ x s w) (fun r => r.1 = spV A s w ∧ RR x o A r.2) := by
  have n := R_n h
  unfold f_X1_spare spV
  rw [cO_t (R_x h)]
  simp only [T_bind, T_some, T_cEq, bI_R, true_and, bI_0, Bool.not_eq_false, X1_isSlack hs, T_ck, X1_isB (by omega : inL w) (by omega : inL 0) (by omega : inL 60)]
  refine ⟨fun e => ⟨by rw [e]; rfl, h⟩, fun e => ⟨hw, fun e1 => ⟨by rw [e1]; simp, h⟩, fun e1 => ?_⟩⟩
  rw [e, e1]
  refine T_lp (fun t => (0 ≤ t.2.1 ∧ t.2.1 ≤ (aV A 7 0)) ∧ t.1 = fo (spF A s w) 0 0 (t.2.1 - 0).toNat ∧ RR x o A t.2.2) (fun t => ((aV A 7 0) - t.2.1).toNat) ?_ ⟨by dsimp only; omega, rfl, h⟩
  intro ⟨v, k, σ1⟩ ⟨k1, e, h⟩
  dsimp only at k1 e h
  unfold f_X1_spare_b26
  simp only [T_cO, T_cLt, Rv0 h, Rv1 h, Rv6 h, Rv7 h, Rv9 h, Rv10 h, Rv13 h, Rv14 h, Rv15 h, Rv16 h, Rv17 h, Rv18 h, Rv19 h, Rv20 h, Rv23 h, Rv24 h, Rv25 h, Rv26 h, Rv27 h]
  refine ⟨R_x h, by omega, fun q => ?_, fun q => ?_⟩
  · have st := fo_at (spF A s w) 0 k1.1
    have sb := soN_b h (g := k) (s := s)
    rw [(R_head h k1.1 q).1]
    simp only [T_ck, T_nnS, T_bd2]
    refine ⟨by omega, T_mono (X1_soMany h k1.1 q hs) (fun r ⟨e1, h1⟩ => ?_)⟩
    rw [e1]
    simp only [T_some, T_none, T_ck, T_cLt, T_cEq, T_jLt, T_jEq, T_bind, T_bd2, T_wS, T_cO, T_nnS, T_cNullN, T_cNullS, T_bT1, T_bT2, T_ex, T_ite, T_dC, Sum.elim_inl, Sum.elim_inr]
    refine ⟨by omega, fun z => ⟨⟨by omega, ?_, h1⟩, by omega⟩, fun z => ⟨⟨by omega, ?_, h1⟩, by omega⟩⟩
    · rw [st, ← e]; unfold spF; rw [if_pos z]
    · rw [st, ← e]; unfold spF; rw [if_neg z]
  · simp only [T_some, T_none, T_ck, T_cLt, T_cEq, T_jLt, T_jEq, T_bind, T_bd2, T_wS, T_cO, T_nnS, T_cNullN, T_cNullS, T_bT1, T_bT2, T_ex, T_ite, T_dC, Sum.elim_inl, Sum.elim_inr]
    refine ⟨?_, h⟩
    rw [e]; simp; congr 1; omega
theorem O_spareM {w : Int} (h : RR x o A σ) (hs : inR s) (hw : inR w) : T (f_X6_spare σ o s w) (fun r => r.1 = spV A s w ∧ RR x o A r.2) := by
  have n := R_n h
  unfold f_X6_spare spV
  rw [cO_t (R_o h)]
  simp only [T_bind, T_some, T_cEq, bI_R, true_and, bI_0, Bool.not_eq_false, X6_isSlack hs, X6_isB hw (by omega : inR 0) (by omega : inR 60)]
  refine ⟨fun e => ⟨by rw [e]; rfl, h⟩, fun e => ⟨fun e1 => ⟨by rw [e1]; simp, h⟩, fun e1 => ?_⟩⟩
  rw [e, e1]
  have wb := isB_t.mp e1
  refine T_lp (fun t => (0 ≤ t.2.1 ∧ t.2.1 ≤ (aV A 7 0)) ∧ t.1 = fo (spF A s w) 0 0 (t.2.1 - 0).toNat ∧ RR x o A t.2.2) (fun t => ((aV A 7 0) - t.2.1).toNat) ?_ ⟨by dsimp only; omega, rfl, h⟩
  intro ⟨v, k, σ1⟩ ⟨k1, e, h⟩
  dsimp only at k1 e h
  unfold f_X6_spare_b25
  rw [R_nh h, R_nq h]
  simp only [T_cO, T_cLt]
  refine ⟨R_o h, by omega, fun q => ?_, fun q => ?_⟩
  · have st := fo_at (spF A s w) 0 k1.1
    have sb := soN_b h (g := k) (s := s)
    simp only [T_bd2]
    refine T_mono (X6_soMany h k1.1 q hs) (fun r ⟨e1, h1⟩ => ?_)
    rw [e1]
    simp only [T_some, T_none, T_ck, T_cLt, T_cEq, T_jLt, T_jEq, T_bind, T_bd2, T_wS, T_cO, T_nnS, T_cNullN, T_cNullS, T_bT1, T_bT2, T_ex, T_ite, T_dC, Sum.elim_inl, Sum.elim_inr]
    refine ⟨by omega, fun z => ⟨⟨by omega, ?_, h1⟩, by omega⟩, fun z => ⟨⟨by omega, ?_, h1⟩, by omega⟩⟩
    · rw [st, ← e]; unfold spF; rw [if_pos z]
    · rw [st, ← e]; unfold spF; rw [if_neg z]
  · simp only [T_some, T_none, T_ck, T_cLt, T_cEq, T_jLt, T_jEq, T_bind, T_bd2, T_wS, T_cO, T_nnS, T_cNullN, T_cNullS, T_bT1, T_bT2, T_ex, T_ite, T_dC, Sum.elim_inl, Sum.elim_inr]
    refine ⟨?_, h⟩
    rw [e]; simp; congr 1; omega
theorem spV_R {w : Int} : inR (spV A s w) := by
  unfold spV
  split
  · exact fo_R (by omega) (fun b k => by unfold spF; split <;> exact bOr_R _ _) _
  · omega
/-- odds -/
def odF (A : AS) (g s : Int) (b k : Int) : Int := if g = -1 ∨ k = g then (if soN A k s = (aV A 13 0) then b + aW A k else b + 0) else b + 0
def odV (A : AS) (g s : Int) : Int := if (decide (g = -1) || isH A g) && isB s 0 999 then fo (odF A g s) 0 0 ((aV A 7 0)).toNat else -1
theorem odF_b (h : RR x o A σ) : ∀ n : Nat, (n : Int) ≤ (aV A 7 0) → 0 ≤ fo (odF A g s) 0 0 n ∧ fo (odF A g s) 0 0 n ≤ 9 * n
  | 0, _ => by simp [fo]
  | n + 1, hn => by
    have ih := odF_b h n (by omega)
    have w := h.2.1.2.2.2.2.2.2.2.2.1 n (by omega) (by omega)
    rw [fo_s, show (0 : Int) + n = n by omega]
    unfold odF at ih ⊢
    split
    · split <;> omega
    · omega
theorem O_oddsX (h : RR x o A σ) (hg : inR g) (hs : inR s) : T (f_X1_odds σ x g s) (fun r => r.1 = odV A g s ∧ RR x o A r.2) := by
  have n := R_n h
  have main : (g = -1 ∨ isH A g = true) → T (f_X1_odds_j13 x g s σ) (fun r => r.1 = odV A g s ∧ RR x o A r.2) := by
    intro hgg
    have gt : (decide (g = -1) || isH A g) = true := by rcases hgg with e | e <;> simp [e]
    unfold f_X1_odds_j13 odV
    rw [gt]
    simp only [T_bind, T_some, T_cEq, bI_R, true_and, bI_0, Bool.not_eq_false, X1_isSlack hs]
    refine ⟨fun e => ⟨by rw [e]; rfl, h⟩, fun e => ?_⟩
    rw [e]
    refine T_lp (fun t => (0 ≤ t.2.1 ∧ t.2.1 ≤ (aV A 7 0)) ∧ t.1 = fo (odF A g s) 0 0 (t.2.1 - 0).toNat ∧ RR x o A t.2.2) (fun t => ((aV A 7 0) - t.2.1).toNat) ?_ ⟨by dsimp only; omega, rfl, h⟩
    intro ⟨v, k, σ1⟩ ⟨k1, e, h⟩
    dsimp only at k1 e h
    unfold f_X1_odds_b27
    simp only [T_cO, T_cLt, Rv0 h, Rv1 h, Rv6 h, Rv7 h, Rv9 h, Rv10 h, Rv13 h, Rv14 h, Rv15 h, Rv16 h, Rv17 h, Rv18 h, Rv19 h, Rv20 h, Rv23 h, Rv24 h, Rv25 h, Rv26 h, Rv27 h]
    refine ⟨R_x h, by omega, fun q => ?_, fun q => ?_⟩
    · have st := fo_at (odF A g s) 0 k1.1
      have sb := soN_b h (g := k) (s := s)
      have go : (g = -1 ∨ k = g) → T (f_X1_odds_j48 x g s k v σ1) (Sum.elim (fun s' => ((0 ≤ s'.2.1 ∧ s'.2.1 ≤ (aV A 7 0)) ∧ s'.1 = fo (odF A g s) 0 0 (s'.2.1 - 0).toNat ∧ RR x o A s'.2.2) ∧ ((aV A 7 0) - s'.2.1).toNat < ((aV A 7 0) - k).toNat) (fun r => r.1 = (if (true && true) = true then fo (odF A g s) 0 0 ((aV A 7 0)).toNat else -1) ∧ RR x o A r.2)) := by
        intro hk
        unfold f_X1_odds_j48
        rw [(R_head h k1.1 q).1]
        simp only [T_cO, T_ck, T_nnS, T_bd2]
        refine ⟨R_x h, by omega, T_mono (X1_soMany h k1.1 q hs) (fun r ⟨e1, h1⟩ => ?_)⟩
        rw [e1, Rv13 h1, (R_head h1 k1.1 q).1]
        have wk : gI r.2 (aHa A k) 16 0 = aW A k := (h1.2.2.1.2.2.1.1 k k1.1 q).2.2.2.1
        simp only [T_some, T_none, T_ck, T_cLt, T_cEq, T_jLt, T_jEq, T_bind, T_bd2, T_wS, T_cO, T_nnS, T_cNullN, T_cNullS, T_bT1, T_bT2, T_ex, T_ite, T_dC, Sum.elim_inl, Sum.elim_inr, wk]
        refine ⟨R_x h1, by omega, fun z => ⟨by omega, (R_head h1 k1.1 q).2.1.1, ⟨by omega, ?_, h1⟩, by omega⟩, fun z => ⟨⟨by omega, ?_, h1⟩, by omega⟩⟩
        · rw [st, ← e]; unfold odF; rw [if_pos hk, if_pos z]
        · rw [st, ← e]; unfold odF; rw [if_pos hk, if_neg z]
      simp only [T_cEq]
      refine ⟨by omega, fun z => go (Or.inl z), fun z => ⟨by omega, fun z1 => go (Or.inr z1), fun z1 => ?_⟩⟩
      simp only [T_some, T_none, T_ck, T_cLt, T_cEq, T_jLt, T_jEq, T_bind, T_bd2, T_wS, T_cO, T_nnS, T_cNullN, T_cNullS, T_bT1, T_bT2, T_ex, T_ite, T_dC, Sum.elim_inl, Sum.elim_inr]
      refine ⟨⟨by omega, ?_, h⟩, by omega⟩
      rw [st, ← e]; unfold odF; rw [if_neg (by omega)]
    · simp only [T_some, T_none, T_ck, T_cLt, T_cEq, T_jLt, T_jEq, T_bind, T_bd2, T_wS, T_cO, T_nnS, T_cNullN, T_cNullS, T_bT1, T_bT2, T_ex, T_ite, T_dC, Sum.elim_inl, Sum.elim_inr]
      refine ⟨?_, h⟩
      rw [e]; simp; congr 1; omega
  unfold f_X1_odds
  rw [cO_t (R_x h)]
  simp only [T_cEq, T_bind, T_some, X1_isHead h hg, bI_R, true_and, bI_0, Bool.not_eq_false]
  refine ⟨by omega, fun z => main (Or.inl z), fun z => ⟨fun e => ⟨?_, h⟩, fun e => main (Or.inr e)⟩⟩
  unfold odV; rw [e]; simp [z]
theorem O_oddsM (h : RR x o A σ) (hg : inR g) (hs : inR s) : T (f_X6_odds σ o g s) (fun r => r.1 = odV A g s ∧ RR x o A r.2) := by
  have n := R_n h
  have main : (g = -1 ∨ isH A g = true) → T (f_X6_odds_j13 o g s σ) (fun r => r.1 = odV A g s ∧ RR x o A r.2) := by
    intro hgg
    have gt : (decide (g = -1) || isH A g) = true := by rcases hgg with e | e <;> simp [e]
    unfold f_X6_odds_j13 odV
    rw [gt, cO_t (R_o h)]
    simp only [T_bind, T_some, T_cEq, bI_R, true_and, bI_0, Bool.not_eq_false, X6_isSlack hs]
    refine ⟨fun e => ⟨by rw [e]; rfl, h⟩, fun e => ?_⟩
    rw [e]
    refine T_lp (fun t => (0 ≤ t.2.1 ∧ t.2.1 ≤ (aV A 7 0)) ∧ t.1 = fo (odF A g s) 0 0 (t.2.1 - 0).toNat ∧ RR x o A t.2.2) (fun t => ((aV A 7 0) - t.2.1).toNat) ?_ ⟨by dsimp only; omega, rfl, h⟩
    intro ⟨v, k, σ1⟩ ⟨k1, e, h⟩
    dsimp only at k1 e h
    unfold f_X6_odds_b28
    rw [R_nh h]
    simp only [T_cO, T_cLt]
    refine ⟨R_o h, by omega, fun q => ?_, fun q => ?_⟩
    · have st := fo_at (odF A g s) 0 k1.1
      have sb := soN_b h (g := k) (s := s)
      have go : (g = -1 ∨ k = g) → T (f_X6_odds_j49 o g s k v σ1) (Sum.elim (fun s' => ((0 ≤ s'.2.1 ∧ s'.2.1 ≤ (aV A 7 0)) ∧ s'.1 = fo (odF A g s) 0 0 (s'.2.1 - 0).toNat ∧ RR x o A s'.2.2) ∧ ((aV A 7 0) - s'.2.1).toNat < ((aV A 7 0) - k).toNat) (fun r => r.1 = (if (true && true) = true then fo (odF A g s) 0 0 ((aV A 7 0)).toNat else -1) ∧ RR x o A r.2)) := by
        intro hk
        unfold f_X6_odds_j49
        simp only [T_cO, T_bd2]
        refine ⟨R_o h, T_mono (X6_soMany h k1.1 q hs) (fun r ⟨e1, h1⟩ => ?_)⟩
        have wk : gI r.2 o 27 k = aW A k := (h1.2.2.2.2.2.2.1 k k1.1 q).2
        rw [e1, R_nq h1]
        simp only [T_some, T_none, T_ck, T_cLt, T_cEq, T_jLt, T_jEq, T_bind, T_bd2, T_wS, T_cO, T_nnS, T_cNullN, T_cNullS, T_bT1, T_bT2, T_ex, T_ite, T_dC, Sum.elim_inl, Sum.elim_inr, wk]
        refine ⟨R_o h1, by omega, fun z => ⟨by omega, ⟨by omega, ?_, h1⟩, by omega⟩, fun z => ⟨⟨by omega, ?_, h1⟩, by omega⟩⟩
        · rw [st, ← e]; unfold odF; rw [if_pos hk, if_pos z]
        · rw [st, ← e]; unfold odF; rw [if_pos hk, if_neg z]
      simp only [T_cEq]
      refine ⟨by omega, fun z => go (Or.inl z), fun z => ⟨by omega, fun z1 => go (Or.inr z1.symm), fun z1 => ?_⟩⟩
      simp only [T_some, T_none, T_ck, T_cLt, T_cEq, T_jLt, T_jEq, T_bind, T_bd2, T_wS, T_cO, T_nnS, T_cNullN, T_cNullS, T_bT1, T_bT2, T_ex, T_ite, T_dC, Sum.elim_inl, Sum.elim_inr]
      refine ⟨⟨by omega, ?_, h⟩, by omega⟩
      rw [st, ← e]; unfold odF; rw [if_neg (by omega)]
    · simp only [T_some, T_none, T_ck, T_cLt, T_cEq, T_jLt, T_jEq, T_bind, T_bd2, T_wS, T_cO, T_nnS, T_cNullN, T_cNullS, T_bT1, T_bT2, T_ex, T_ite, T_dC, Sum.elim_inl, Sum.elim_inr]
      refine ⟨?_, h⟩
      rw [e]; simp; congr 1; omega
  unfold f_X6_odds
  rw [cO_t (R_o h)]
  simp only [T_cEq, T_bind, T_some, X6_isHead h hg, bI_R, true_and, bI_0, Bool.not_eq_false]
  refine ⟨by omega, fun z => main (Or.inl z), fun z => ⟨fun e => ⟨?_, h⟩, fun e => main (Or.inr e)⟩⟩
  unfold odV; rw [e]; simp [z]
theorem odV_R (h : RR x o A σ) : inR (odV A g s) := by
  have n := R_n h
  have := odF_b h (g := g) (s := s) ((aV A 7 0)).toNat (by omega)
  unfold odV; split <;> constructor <;> omega
end
