/-! right, part, held, spell, further -/
set_option maxRecDepth 100000
def riB (A : AS) (g c y w m d : Int) : Bool := isD A c y m d && (goC (aH A g) (aC A c) y m && (decide (ansC (aH A g) (aC A c) y m d = Int.tmod (dayC (aC A c) y m d) 7) == decide (w = 0)))
def rgV (A : AS) (g c y w : Int) : Int := if isH A g && (isC A c && (isB y 1 9999 && isB w 0 1)) then sm (fun m => sm (fun d => bI (riB A g c y w m d)) 1 31) 1 12 else -1
/-- the first of a range that is there -/
def ffO (f : Int → Option Int) : Nat → Int → Option Int
  | 0, _ => none
  | n + 1, lo => match f lo with
    | some v => some v
    | none => ffO f n (lo + 1)
theorem ffO_s (f : Int → Option Int) {k hi : Int} (h : k < hi) : ffO f (hi - k).toNat k = match f k with
    | some v => some v
    | none => ffO f (hi - (k + 1)).toNat (k + 1) := by
  have e : (hi - k).toNat = (hi - (k + 1)).toNat + 1 := by omega
  rw [e]; rfl
theorem ffO_n {f : Int → Option Int} : ∀ {n : Nat} {lo : Int}, (∀ k, lo ≤ k → k < lo + n → f k = none) → ffO f n lo = none
  | 0, _, _ => rfl
  | n + 1, lo, h => by
    show (match f lo with | some v => some v | none => ffO f n (lo + 1)) = none
    rw [h lo (by omega) (by omega)]
    exact ffO_n (fun k k1 k2 => h k (by omega) (by omega))
theorem ffO_t {f : Int → Option Int} {d : Nat} : ∀ {n : Nat} {lo : Int}, (∀ k, lo + n ≤ k → k < lo + n + d → f k = none) → ffO f (n + d) lo = ffO f n lo
  | 0, lo, h => by rw [Nat.zero_add]; exact ffO_n (fun k k1 k2 => h k (by omega) (by omega))
  | n + 1, lo, h => by
    rw [show n + 1 + d = (n + d) + 1 by omega]
    show (match f lo with | some v => some v | none => ffO f (n + d) (lo + 1)) = (match f lo with | some v => some v | none => ffO f n (lo + 1))
    rw [ffO_t (n := n) (lo := lo + 1) (fun k k1 k2 => h k (by omega) (by omega))]
section
variable {σ : St} {x o a b : Nat} {A : AS} {g g' c y m d v k s p f t w i : Int} {C C' : Cal}
theorem slV_0 {p D : Int} (h1 : 0 ≤ p) (h2 : p ≤ 6) (h3 : 0 ≤ D) : slV p D = 0 ↔ p = Int.tmod D 7 := by
  unfold slV
  rw [Int.tmod_eq_emod_of_nonneg h3]
  omega
theorem O_rightX (h : RR x o A σ) (hg : inR g) (hc : inR c) (hy : inR y) (hw : inR w) : T (f_X1_right σ x g c y w) (fun r => r.1 = rgV A g c y w ∧ RR x o A r.2) := by
  have n := R_n h
  unfold f_X1_right rgV
  rw [cO_t (R_x h)]
  simp only [T_bind, T_some, T_cEq, bI_R, true_and, bI_0, Bool.not_eq_false, X1_isHead h hg, X1_isCalendar h hc, X1_isYear hy, T_ck, X1_isB (by omega : inL w) (by omega : inL 0) (by omega : inL 1)]
  refine ⟨fun e => ⟨by rw [e]; rfl, h⟩, fun e => ⟨fun e1 => ⟨by rw [e1]; simp, h⟩, fun e1 => ⟨fun e2 => ⟨by rw [e2]; simp, h⟩, fun e2 => ⟨hw, fun e3 => ⟨by rw [e3]; simp, h⟩, fun e3 => ?_⟩⟩⟩⟩
  have q := isH_t.mp e
  have qc := isC_t.mp e1
  have yb := isB_t.mp e2
  have wb := isB_t.mp e3
  rw [(R_head h q.1 q.2).1, (R_cal h qc.1 qc.2).1, e, e1, e2, e3]
  simp only [T_nnS, T_ck, Bool.and_self, if_true]
  refine ⟨by omega, by omega, ?_⟩
  refine T_lp (fun t => (1 ≤ t.2.1 ∧ t.2.1 ≤ 13) ∧ t.1 = sm (fun m => sm (fun d => bI (riB A g c y w m d)) 1 31) 1 (t.2.1 - 1).toNat ∧ RR x o A t.2.2) (fun t => (13 - t.2.1).toNat) ?_ ⟨by dsimp only; omega, rfl, h⟩
  intro ⟨v, m, σ1⟩ ⟨m1, ev, h⟩
  dsimp only at m1 ev h
  have st := sm_at (fun m => sm (fun d => bI (riB A g c y w m d)) 1 31) m1.1
  unfold f_X1_right_b58
  simp only [T_cLt]
  refine ⟨by omega, fun z => ?_, fun z => ?_⟩
  · simp only [T_cO, T_bd2]
    refine ⟨R_x h, T_mono (X1_hasWay h q.1 q.2 qc.1 qc.2 yb.1 yb.2 m1.1 (by omega)) (fun r ⟨e4, h4⟩ => ?_)⟩
    rw [e4]
    simp only [T_cEq, bI_R, true_and, bI_0, Bool.not_eq_false, T_some, Sum.elim_inl]
    refine ⟨fun z1 => ⟨⟨by omega, ?_, h4⟩, by omega⟩, fun z1 => ?_⟩
    · have z0 : sm (fun d => bI (riB A g c y w m d)) 1 31 = 0 := by
        have e9 := sm_cg (fun d => bI (riB A g c y w m d)) (fun _ => 0) 1 31 (fun k _ _ => by show bI (riB A g c y w m k) = 0; unfold riB; rw [z1]; simp [bI])
        rw [e9]; rfl
      rw [st, ev]; show _ = _ + sm (fun d => bI (riB A g c y w m d)) 1 31; rw [z0]; omega
    · refine T_lp (fun t => (1 ≤ t.2.1 ∧ t.2.1 ≤ 32) ∧ t.1 = v + sm (fun d => bI (riB A g c y w m d)) 1 (t.2.1 - 1).toNat ∧ RR x o A t.2.2) (fun t => (32 - t.2.1).toNat) ?_ ⟨by dsimp only; omega, by dsimp only; simp [sm], h4⟩
      intro ⟨u, d, σ2⟩ ⟨d1, eu, h⟩
      dsimp only at d1 eu h
      have sd := sm_at (fun d => bI (riB A g c y w m d)) d1.1
      have hC := (R_cal h qc.1 qc.2).2
      unfold f_X1_right_b85
      simp only [T_cLt]
      refine ⟨by omega, fun z2 => ?_, fun z2 => ?_⟩
      · simp only [T_cO, T_bind, X2_has hC hy (by omega : inR m) (by omega : inR d), T_some, T_cEq, bI_R, true_and, bI_0, Bool.not_eq_false, Sum.elim_inl, T_bd2]
        refine ⟨hC.1, fun z3 => ⟨⟨by omega, ?_, h⟩, by omega⟩, fun z3 => ?_⟩
        · rw [sd, eu]; simp only [riB, isD, z3, Bool.and_false, Bool.false_and]; rw [bI_f]; omega
        · refine T_mono (X1_answerOf h q.1 q.2 qc.1 qc.2 yb.1 yb.2 m1.1 (by omega) d1.1 (by omega) z1) (fun r ⟨e5, h5⟩ => ?_)
          have hC5 := (R_cal h5 qc.1 qc.2).2
          have ab := ansC_b (H := aH A g) (C := aC A c) (y := y) (m := m) (d := d)
          have rb : riB A g c y w m d = (decide (ansC (aH A g) (aC A c) y m d = Int.tmod (dayC (aC A c) y m d) 7) == decide (w = 0)) := by
            unfold riB isD; rw [isC_t.mpr qc, z3, z1]; rfl
          have fin : ∀ σ3 tv, RR x o A σ3 → tv = bI (decide (ansC (aH A g) (aC A c) y m d = Int.tmod (dayC (aC A c) y m d) 7)) → T (f_X1_right_j137 x y w (aHa A g) (aCa A c) m d tv u σ3) (Sum.elim (fun s' => ((1 ≤ s'.2.1 ∧ s'.2.1 ≤ 32) ∧ s'.1 = v + sm (fun d => bI (riB A g c y w m d)) 1 (s'.2.1 - 1).toNat ∧ RR x o A s'.2.2) ∧ (32 - s'.2.1).toNat < (32 - d).toNat) (Sum.elim (fun s' => ((1 ≤ s'.2.1 ∧ s'.2.1 ≤ 13) ∧ s'.1 = sm (fun m => sm (fun d => bI (riB A g c y w m d)) 1 31) 1 (s'.2.1 - 1).toNat ∧ RR x o A s'.2.2) ∧ (13 - s'.2.1).toNat < (13 - m).toNat) (fun r => r.1 = sm (fun m => sm (fun d => bI (riB A g c y w m d)) 1 31) 1 12 ∧ RR x o A r.2))) := by
            intro σ3 tv h3 et
            have key : ∀ nv, nv = u + bI (riB A g c y w m d) → ((1 ≤ d + 1 ∧ d + 1 ≤ 32) ∧ nv = v + sm (fun d => bI (riB A g c y w m d)) 1 (d + 1 - 1).toNat ∧ RR x o A σ3) ∧ (32 - (d + 1)).toNat < (32 - d).toNat := by
              intro nv en
              refine ⟨⟨by omega, ?_, h3⟩, by omega⟩
              rw [sd, en, eu]; omega
            unfold f_X1_right_j137 f_X1_right_j147
            have tb : tv = 0 ∨ tv = 1 := by rw [et]; exact bI_b _
            simp only [T_cEq, T_some, Sum.elim_inl]
            refine ⟨by omega, fun w0 => ⟨by omega, fun t1 => key _ ?_, fun t1 => key _ ?_⟩, fun w0 => ⟨by omega, fun t1 => key _ ?_, fun t1 => key _ ?_⟩⟩
            all_goals (rw [rb]; by_cases cc : ansC (aH A g) (aC A c) y m d = Int.tmod (dayC (aC A c) y m d) 7)
            all_goals (simp [bI, cc] at et; simp [bI, cc, w0]; try omega)
          simp only [T_cO, X2_week hC5 z3, T_some, T_cEq]
          rw [e5]
          refine ⟨hC5.1, ⟨by omega, tmod_R⟩, fun z4 => fin r.2 1 h5 (by rw [decide_eq_true z4]; rfl), fun z4 => fin r.2 0 h5 (by rw [decide_eq_false z4]; rfl)⟩
      · simp only [T_ex, T_some, Sum.elim_inl, Sum.elim_inr]
        refine ⟨⟨by omega, ?_, h⟩, by omega⟩
        have : d = 32 := by omega
        rw [st, eu, ev, this]; rfl
  · simp only [T_ex, T_some, Sum.elim_inr]
    refine ⟨?_, h⟩
    have : m = 13 := by omega
    rw [ev, this]; rfl
theorem O_rightM (h : RR x o A σ) (hg : inR g) (hc : inR c) (hy : inR y) (hw : inR w) : T (f_X6_right σ o g c y w) (fun r => r.1 = rgV A g c y w ∧ RR x o A r.2) := by
  have n := R_n h
  unfold f_X6_right rgV
  rw [cO_t (R_o h)]
  simp only [T_bind, T_some, T_cEq, bI_R, true_and, bI_0, Bool.not_eq_false, X6_isHead h hg, X6_isCal h hc, X6_isB hy (by omega : inR 1) (by omega : inR 9999), X6_isB hw (by omega : inR 0) (by omega : inR 1)]
  refine ⟨fun e => ⟨by rw [e]; rfl, h⟩, fun e => ⟨fun e1 => ⟨by rw [e1]; simp, h⟩, fun e1 => ⟨fun e2 => ⟨by rw [e2]; simp, h⟩, fun e2 => ⟨fun e3 => ⟨by rw [e3]; simp, h⟩, fun e3 => ?_⟩⟩⟩⟩
  have q := isH_t.mp e
  have qc := isC_t.mp e1
  have yb := isB_t.mp e2
  have wb := isB_t.mp e3
  rw [e, e1, e2, e3]
  simp only [Bool.and_self, if_true]
  refine T_lp (fun t => (1 ≤ t.2.1 ∧ t.2.1 ≤ 13) ∧ t.1 = sm (fun m => sm (fun d => bI (riB A g c y w m d)) 1 31) 1 (t.2.1 - 1).toNat ∧ RR x o A t.2.2) (fun t => (13 - t.2.1).toNat) ?_ ⟨by dsimp only; omega, rfl, h⟩
  intro ⟨v, m, σ1⟩ ⟨m1, ev, h⟩
  dsimp only at m1 ev h
  have st := sm_at (fun m => sm (fun d => bI (riB A g c y w m d)) 1 31) m1.1
  unfold f_X6_right_b45
  simp only [T_cLt]
  refine ⟨by omega, fun z => ?_, fun z => ?_⟩
  · simp only [T_ex, T_some, Sum.elim_inr]
    refine ⟨?_, h⟩
    have : m = 13 := by omega
    rw [ev, this]; rfl
  · refine T_lp (fun t => (1 ≤ t.2.1 ∧ t.2.1 ≤ 32) ∧ t.1 = v + sm (fun d => bI (riB A g c y w m d)) 1 (t.2.1 - 1).toNat ∧ RR x o A t.2.2) (fun t => (32 - t.2.1).toNat) ?_ ⟨by dsimp only; omega, by dsimp only; simp [sm], h⟩
    intro ⟨u, d, σ2⟩ ⟨d1, eu, h⟩
    dsimp only at d1 eu h
    have sd := sm_at (fun d => bI (riB A g c y w m d)) d1.1
    have key : ∀ σ3 nv, RR x o A σ3 → ¬ 31 < d → nv = u + bI (riB A g c y w m d) → ((1 ≤ d + 1 ∧ d + 1 ≤ 32) ∧ nv = v + sm (fun d => bI (riB A g c y w m d)) 1 (d + 1 - 1).toNat ∧ RR x o A σ3) ∧ (32 - (d + 1)).toNat < (32 - d).toNat := by
      intro σ3 nv h3 hd en
      refine ⟨⟨by omega, ?_, h3⟩, by omega⟩
      rw [sd, en, eu]; omega
    unfold f_X6_right_b55 f_X6_right_j93 f_X6_right_j94
    simp only [T_cLt]
    refine ⟨by omega, fun z2 => ?_, fun z2 => ?_⟩
    · simp only [T_ex, T_some, Sum.elim_inl, Sum.elim_inr]
      refine ⟨⟨by omega, ?_, h⟩, by omega⟩
      have : d = 32 := by omega
      rw [st, eu, ev, this]; rfl
    · simp only [T_cO, T_bind, X6_isDat h hc hy (by omega : inR m) (by omega : inR d), T_some, T_cEq, bI_R, true_and, bI_0, Bool.not_eq_false, Sum.elim_inl, T_bd2]
      refine ⟨R_o h, fun z3 => ⟨by omega, fun _ => key σ2 _ h z2 ?_, fun q => absurd trivial q⟩, fun z3 => ?_⟩
      · unfold riB; rw [z3]; simp [bI]
      · refine T_mono (X6_answer h q.1 q.2 qc.1 qc.2 yb.1 yb.2 m1.1 (by omega) d1.1 (by omega)) (fun r ⟨e5, f5, va, _⟩ => ?_)
        have h5 := RR_sc h f5
        rw [e5]
        simp only [T_cEq, bI_R, true_and, bI_0, Bool.not_eq_false, T_cO, T_bind, T_some, Sum.elim_inl]
        refine ⟨fun z4 => ⟨by omega, fun _ => key r.2 _ h5 z2 ?_, fun q => absurd trivial q⟩, fun z4 => ⟨by omega, fun q => by omega, fun _ => ⟨R_o h5, ?_⟩⟩⟩
        · unfold riB; rw [z4]; simp [bI]
        · have ab := ansC_b (H := aH A g) (C := aC A c) (y := y) (m := m) (d := d)
          have db := dayC_bb h5 qc (y := y) (m := m) (d := d)
          have sr := slV_R (ansC (aH A g) (aC A c) y m d) (dayC (aC A c) y m d)
          have s0 := slV_0 ab.1 ab.2 db.1
          have rb : riB A g c y w m d = (decide (ansC (aH A g) (aC A c) y m d = Int.tmod (dayC (aC A c) y m d) 7) == decide (w = 0)) := by
            unfold riB; rw [z3, z4]; rfl
          rw [(va z4).1, X6_dayO h5 z3]
          simp only [T_some, X6_round (σ := r.2) ab.1 ab.2 db.1 db.2]
          unfold f_X6_right_j129 f_X6_right_j139
          simp only [T_cEq, T_some, Sum.elim_inl]
          refine ⟨by omega, fun z5 => ⟨by omega, fun w0 => ⟨by omega, fun _ => key r.2 _ h5 z2 ?_, fun q => absurd trivial q⟩, fun w0 => ⟨by omega, fun q => by omega, fun _ => key r.2 _ h5 z2 ?_⟩⟩, fun z5 => ⟨by omega, fun w0 => ⟨by omega, fun q => by omega, fun _ => key r.2 _ h5 z2 ?_⟩, fun w0 => ⟨by omega, fun _ => key r.2 _ h5 z2 ?_, fun q => absurd trivial q⟩⟩⟩
          · rw [rb, decide_eq_true (s0.mp z5), decide_eq_true w0]; rfl
          · rw [rb, decide_eq_true (s0.mp z5), decide_eq_false w0]; rfl
          · rw [rb, decide_eq_false (fun q => z5 (s0.mpr q)), decide_eq_true w0]; rfl
          · rw [rb, decide_eq_false (fun q => z5 (s0.mpr q)), decide_eq_false w0]; rfl
theorem rgV_R : inR (rgV A g c y w) := by
  unfold rgV
  split
  · have inn : ∀ m, 0 ≤ sm (fun d => bI (riB A g c y w m d)) 1 31 ∧ sm (fun d => bI (riB A g c y w m d)) 1 31 ≤ 31 := by
      intro m
      constructor
      · exact sm_0 (fun k _ _ => by have := bI_b (riB A g c y w m k); omega)
      · have := sm_u (fun d => bI (riB A g c y w m d)) 1 1 (fun k => by have := bI_b (riB A g c y w m k); omega) 31
        omega
    have a := sm_0 (g := fun m => sm (fun d => bI (riB A g c y w m d)) 1 31) (lo := 1) (n := 12) (fun k _ _ => (inn k).1)
    have b := sm_u (fun m => sm (fun d => bI (riB A g c y w m d)) 1 31) 1 31 (fun k => (inn k).2) 12
    constructor <;> omega
  · omega
/-- part -/
def pd3 (A : AS) (g g' c y m d : Int) : Option Int := if isD A c y m d && apB A g g' c y m d then some (dayC (aC A c) y m d) else none
def pd2 (A : AS) (g g' c y m : Int) : Option Int := ffO (pd3 A g g' c y m) 31 1
def pd1 (A : AS) (g g' c y : Int) : Option Int := ffO (pd2 A g g' c y) 12 1
def ptV (A : AS) (g g' c y n : Int) : Int := if isH A g && (isH A g' && (isC A c && (isB y 1 9999 && isB n 1 20))) then (ffO (pd1 A g g' c) n.toNat y).getD (-1) else -1
theorem X1_part2 (h : RR x o A σ) (g1 : 0 ≤ g) (g2 : g < (aV A 7 0)) (p1 : 0 ≤ g') (p2 : g' < (aV A 7 0)) (hc : 0 ≤ c ∧ c < (aV A 6 0)) {n' : Int} (hy : inR y) (hm : inR m) : T (lp (fun s => f_X1_part_b82 x g g' t n' (aCa A c) y m s.1 s.2) (1, σ)) (fun r => match pd2 A g g' c y m with
    | some v => ∃ σ', r = .inr (.inr (v, σ')) ∧ RR x o A σ'
    | none => ∃ σ', r = .inl (m + 1, σ') ∧ RR x o A σ') := by
  have n := R_n h
  have e0 : pd2 A g g' c y m = ffO (pd3 A g g' c y m) (32 - 1 : Int).toNat 1 := rfl
  rw [e0]
  refine T_lp (fun t => (1 ≤ t.1 ∧ t.1 ≤ 32) ∧ ffO (pd3 A g g' c y m) (32 - 1 : Int).toNat 1 = ffO (pd3 A g g' c y m) (32 - t.1).toNat t.1 ∧ RR x o A t.2) (fun t => (32 - t.1).toNat) ?_ ⟨by dsimp only; omega, rfl, h⟩
  intro ⟨d, σ1⟩ ⟨d1, ef, h⟩
  dsimp only at d1 ef h
  have hC := (R_cal h hc.1 hc.2).2
  unfold f_X1_part_b82
  rw [ef]
  simp only [T_cLt]
  refine ⟨by omega, fun z => ?_, fun z => ?_⟩
  · have st := ffO_s (pd3 A g g' c y m) z
    have iD : isD A c y m d = hasC (aC A c) y m d := by unfold isD; rw [isC_t.mpr hc]; rfl
    simp only [T_cO, T_bind, X2_has hC hy hm (by omega : inR d), T_some, T_cEq, bI_R, true_and, bI_0, Bool.not_eq_false, Sum.elim_inl, T_bd2]
    refine ⟨hC.1, fun z1 => ⟨⟨by omega, ?_, h⟩, by omega⟩, fun z1 => ?_⟩
    · rw [← ef, ef, st]
      have : pd3 A g g' c y m d = none := by unfold pd3; rw [iD, z1]; rfl
      rw [this]
    · rw [(R_head h g1 g2).1, (R_head h p1 p2).1]
      simp only [T_ck, T_nnS, T_bd2]
      refine ⟨R_x h, by omega, by omega, T_mono (X1_partsAt h g1 g2 p1 p2 (by rw [iD]; exact z1)) (fun r ⟨e5, h5⟩ => ?_)⟩
      have hC5 := (R_cal h5 hc.1 hc.2).2
      rw [e5]
      simp only [T_cEq, bI_R, true_and, bI_0, Bool.not_eq_false, T_some, T_ex, T_cO, T_bind, X2_day hC5 z1, Sum.elim_inl, Sum.elim_inr]
      refine ⟨fun z2 => ⟨⟨by omega, ?_, h5⟩, by omega⟩, fun z2 => ⟨hC5.1, ?_⟩⟩
      · rw [st]
        have : pd3 A g g' c y m d = none := by unfold pd3; rw [z2]; simp
        rw [this]
      · rw [st]
        have : pd3 A g g' c y m d = some (dayC (aC A c) y m d) := by unfold pd3; rw [iD, z1, z2]; rfl
        rw [this]
        exact ⟨r.2, rfl, h5⟩
  · simp only [T_ex, T_some, Sum.elim_inr]
    rw [show (32 - d).toNat = 0 by omega]
    exact ⟨σ1, rfl, h⟩
theorem X6_part2 (h : RR x o A σ) (g1 : 0 ≤ g) (g2 : g < (aV A 7 0)) (p1 : 0 ≤ g') (p2 : g' < (aV A 7 0)) (hc : 0 ≤ c ∧ c < (aV A 6 0)) {n' : Int} (hy : inR y) (hm : inR m) : T (lp (fun s => f_X6_part_b82 o g g' c t n' y m s.1 s.2) (1, σ)) (fun r => match pd2 A g g' c y m with
    | some v => ∃ σ', r = .inr (.inr (v, σ')) ∧ RR x o A σ'
    | none => ∃ σ', r = .inl (m + 1, σ') ∧ RR x o A σ') := by
  have n := R_n h
  have e0 : pd2 A g g' c y m = ffO (pd3 A g g' c y m) (32 - 1 : Int).toNat 1 := rfl
  rw [e0]
  refine T_lp (fun t => (1 ≤ t.1 ∧ t.1 ≤ 32) ∧ ffO (pd3 A g g' c y m) (32 - 1 : Int).toNat 1 = ffO (pd3 A g g' c y m) (32 - t.1).toNat t.1 ∧ RR x o A t.2) (fun t => (32 - t.1).toNat) ?_ ⟨by dsimp only; omega, rfl, h⟩
  intro ⟨d, σ1⟩ ⟨d1, ef, h⟩
  dsimp only at d1 ef h
  unfold f_X6_part_b82
  rw [ef]
  simp only [T_cLt]
  refine ⟨by omega, fun z => ?_, fun z => ?_⟩
  · simp only [T_ex, T_some, Sum.elim_inr]
    rw [show (32 - d).toNat = 0 by omega]
    exact ⟨σ1, rfl, h⟩
  · have st := ffO_s (pd3 A g g' c y m) (k := d) (hi := 32) (by omega)
    simp only [T_cO, T_bind, X6_isDat h (by omega : inR c) hy hm (by omega : inR d), T_some, T_cEq, bI_R, true_and, bI_0, Bool.not_eq_false, Sum.elim_inl, T_bd2]
    refine ⟨R_o h, fun z1 => ⟨⟨by omega, ?_, h⟩, by omega⟩, fun z1 => ?_⟩
    · rw [st]
      have : pd3 A g g' c y m d = none := by unfold pd3; rw [z1]; rfl
      rw [this]
    · refine T_mono (X6_areApart h g1 g2 p1 p2 z1) (fun r ⟨e5, h5⟩ => ?_)
      rw [e5]
      simp only [T_cEq, bI_R, true_and, bI_0, Bool.not_eq_false, T_some, T_ex, T_cO, T_bind, X6_dayO h5 z1, Sum.elim_inl, Sum.elim_inr]
      refine ⟨fun z2 => ⟨⟨by omega, ?_, h5⟩, by omega⟩, fun z2 => ⟨R_o h5, ?_⟩⟩
      · rw [st]
        have : pd3 A g g' c y m d = none := by unfold pd3; rw [z2]; simp
        rw [this]
      · rw [st]
        have : pd3 A g g' c y m d = some (dayC (aC A c) y m d) := by unfold pd3; rw [z1, z2]; rfl
        rw [this]
        exact ⟨r.2, rfl, h5⟩
end
