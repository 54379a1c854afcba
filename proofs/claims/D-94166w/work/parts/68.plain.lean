/-! part (whole), held, spell, further -/
set_option maxRecDepth 100000
section
variable {σ : St} {x o a b : Nat} {A : AS} {g g' c y m d v k s p f t w i n' : Int} {C C' : Cal}
theorem pd3_b (h : RR x o A σ) (hc : 0 ≤ c ∧ c < (aV A 6 0)) {u : Int} (q : pd3 A g g' c y m d = some u) : inR u := by
  unfold pd3 at q
  split at q
  · cases q; have := dayC_bb h hc (y := y) (m := m) (d := d); constructor <;> omega
  · cases q
theorem ffO_P {f : Int → Option Int} {P : Int → Prop} (hf : ∀ k u, f k = some u → P u) : ∀ {n : Nat} {lo u : Int}, ffO f n lo = some u → P u
  | 0, _, _, h => by cases h
  | n + 1, lo, u, h => by
    unfold ffO at h
    split at h
    · rename_i v e; cases h; exact hf lo _ e
    · exact ffO_P hf h
theorem X1_part1 (h : RR x o A σ) (g1 : 0 ≤ g) (g2 : g < (aV A 7 0)) (p1 : 0 ≤ g') (p2 : g' < (aV A 7 0)) (hc : 0 ≤ c ∧ c < (aV A 6 0)) (hy : inR y) : T (lp (fun s => f_X1_part_b72 x g g' t n' (aCa A c) y s.1 s.2) (1, σ)) (fun r => match pd1 A g g' c y with
    | some v => ∃ σ', r = .inr (v, σ') ∧ RR x o A σ'
    | none => ∃ σ', r = .inl (y + 1, σ') ∧ RR x o A σ') := by
  have n := R_n h
  have e0 : pd1 A g g' c y = ffO (pd2 A g g' c y) (13 - 1 : Int).toNat 1 := rfl
  rw [e0]
  refine T_lp (fun t => (1 ≤ t.1 ∧ t.1 ≤ 13) ∧ ffO (pd2 A g g' c y) (13 - 1 : Int).toNat 1 = ffO (pd2 A g g' c y) (13 - t.1).toNat t.1 ∧ RR x o A t.2) (fun t => (13 - t.1).toNat) ?_ ⟨by dsimp only; omega, rfl, h⟩
  intro ⟨m, σ1⟩ ⟨m1, ef, h⟩
  dsimp only at m1 ef h
  unfold f_X1_part_b72
  rw [ef]
  simp only [T_cLt]
  refine ⟨by omega, fun z => ?_, fun z => ?_⟩
  · have st := ffO_s (pd2 A g g' c y) z
    refine T_mono (X1_part2 h g1 g2 p1 p2 hc hy (by omega : inR m)) (fun r hr => ?_)
    cases e5 : pd2 A g g' c y m with
    | some u =>
      rw [e5] at hr st
      obtain ⟨σ', er, h5⟩ := hr
      rw [er, st]
      exact ⟨σ', rfl, h5⟩
    | none =>
      rw [e5] at hr st
      obtain ⟨σ', er, h5⟩ := hr
      rw [er]
      exact ⟨⟨by dsimp only; omega, by dsimp only; rw [st], h5⟩, by dsimp only; omega⟩
  · simp only [T_ex, T_some, Sum.elim_inr]
    rw [show (13 - m).toNat = 0 by omega]
    exact ⟨σ1, rfl, h⟩
theorem X6_part1 (h : RR x o A σ) (g1 : 0 ≤ g) (g2 : g < (aV A 7 0)) (p1 : 0 ≤ g') (p2 : g' < (aV A 7 0)) (hc : 0 ≤ c ∧ c < (aV A 6 0)) (hy : inR y) : T (lp (fun s => f_X6_part_b72 o g g' c t n' y s.1 s.2) (1, σ)) (fun r => match pd1 A g g' c y with
    | some v => ∃ σ', r = .inr (v, σ') ∧ RR x o A σ'
    | none => ∃ σ', r = .inl (y + 1, σ') ∧ RR x o A σ') := by
  have n := R_n h
  have e0 : pd1 A g g' c y = ffO (pd2 A g g' c y) (13 - 1 : Int).toNat 1 := rfl
  rw [e0]
  refine T_lp (fun t => (1 ≤ t.1 ∧ t.1 ≤ 13) ∧ ffO (pd2 A g g' c y) (13 - 1 : Int).toNat 1 = ffO (pd2 A g g' c y) (13 - t.1).toNat t.1 ∧ RR x o A t.2) (fun t => (13 - t.1).toNat) ?_ ⟨by dsimp only; omega, rfl, h⟩
  intro ⟨m, σ1⟩ ⟨m1, ef, h⟩
  dsimp only at m1 ef h
  unfold f_X6_part_b72
  rw [ef]
  simp only [T_cLt]
  refine ⟨by omega, fun z => ?_, fun z => ?_⟩
  · simp only [T_ex, T_some, Sum.elim_inr]
    rw [show (13 - m).toNat = 0 by omega]
    exact ⟨σ1, rfl, h⟩
  · have st := ffO_s (pd2 A g g' c y) (k := m) (hi := 13) (by omega)
    refine T_mono (X6_part2 h g1 g2 p1 p2 hc hy (by omega : inR m)) (fun r hr => ?_)
    cases e5 : pd2 A g g' c y m with
    | some u =>
      rw [e5] at hr st
      obtain ⟨σ', er, h5⟩ := hr
      rw [er, st]
      exact ⟨σ', rfl, h5⟩
    | none =>
      rw [e5] at hr st
      obtain ⟨σ', er, h5⟩ := hr
      rw [er]
      exact ⟨⟨by dsimp only; omega, by dsimp only; rw [st], h5⟩, by dsimp only; omega⟩
theorem O_partX (h : RR x o A σ) (hg : inR g) (hg' : inR g') (hc : inR c) (hy : inR y) (hn : inR n') : T (f_X1_part σ x g g' c y n') (fun r => r.1 = ptV A g g' c y n' ∧ RR x o A r.2) := by
  have n := R_n h
  unfold f_X1_part ptV
  rw [cO_t (R_x h)]
  simp only [T_bind, T_some, T_cEq, bI_R, true_and, bI_0, Bool.not_eq_false, X1_isHead h hg, X1_isHead h hg', X1_isCalendar h hc, X1_isYear hy, T_ck, X1_isB (by omega : inL n') (by omega : inL 1) (by omega : inL 20)]
  refine ⟨fun e => ⟨by rw [e]; rfl, h⟩, fun e => ⟨fun e1 => ⟨by rw [e1]; simp, h⟩, fun e1 => ⟨fun e2 => ⟨by rw [e2]; simp, h⟩, fun e2 => ⟨fun e3 => ⟨by rw [e3]; simp, h⟩, fun e3 => ⟨hn, fun e4 => ⟨by rw [e4]; simp, h⟩, fun e4 => ?_⟩⟩⟩⟩⟩
  have q := isH_t.mp e
  have q' := isH_t.mp e1
  have qc := isC_t.mp e2
  have yb := isB_t.mp e3
  have nb := isB_t.mp e4
  rw [(R_cal h qc.1 qc.2).1, e, e1, e2, e3, e4]
  simp only [T_nnS, T_ck, Bool.and_self, if_true]
  refine ⟨by omega, ?_⟩
  have e0 : n'.toNat = (y + n' - y).toNat := by omega
  rw [e0]
  refine T_lp (fun t => (y ≤ t.1 ∧ t.1 ≤ y + n') ∧ ffO (pd1 A g g' c) (y + n' - y).toNat y = ffO (pd1 A g g' c) (y + n' - t.1).toNat t.1 ∧ RR x o A t.2) (fun t => (y + n' - t.1).toNat) ?_ ⟨by dsimp only; omega, rfl, h⟩
  intro ⟨k, σ1⟩ ⟨k1, ef, h⟩
  dsimp only at k1 ef h
  unfold f_X1_part_b59
  rw [ef]
  simp only [T_cLt]
  refine ⟨by omega, fun z => ?_, fun z => ?_⟩
  · have st := ffO_s (pd1 A g g' c) z
    refine T_mono (X1_part1 h q.1 q.2 q'.1 q'.2 qc (by omega : inR k)) (fun r hr => ?_)
    cases e5 : pd1 A g g' c k with
    | some u =>
      rw [e5] at hr st
      obtain ⟨σ', er, h5⟩ := hr
      rw [er, st]
      exact ⟨rfl, h5⟩
    | none =>
      rw [e5] at hr st
      obtain ⟨σ', er, h5⟩ := hr
      rw [er]
      exact ⟨⟨by dsimp only; omega, by dsimp only; rw [st], h5⟩, by dsimp only; omega⟩
  · simp only [T_ex, T_some, Sum.elim_inr]
    rw [show (y + n' - k).toNat = 0 by omega]
    exact ⟨rfl, h⟩
theorem pd1_o (hk : 9999 < k) : pd1 A g g' c k = none := by
  refine ffO_n (fun m _ _ => ffO_n (fun d _ _ => ?_))
  unfold pd3
  have : isD A c k m d = false := by
    cases e : isD A c k m d with
    | false => rfl
    | true => have := hasC_i (isD_t.mp e).2; omega
  rw [this]; rfl
theorem O_partM (h : RR x o A σ) (hg : inR g) (hg' : inR g') (hc : inR c) (hy : inR y) (hn : inR n') : T (f_X6_part σ o g g' c y n') (fun r => r.1 = ptV A g g' c y n' ∧ RR x o A r.2) := by
  have n := R_n h
  unfold f_X6_part ptV
  rw [cO_t (R_o h)]
  simp only [T_bind, T_some, T_cEq, bI_R, true_and, bI_0, Bool.not_eq_false, X6_isHead h hg, X6_isHead h hg', X6_isCal h hc, X6_isB hy (by omega : inR 1) (by omega : inR 9999), X6_isB hn (by omega : inR 1) (by omega : inR 20)]
  refine ⟨fun e => ⟨by rw [e]; rfl, h⟩, fun e => ⟨fun e1 => ⟨by rw [e1]; simp, h⟩, fun e1 => ⟨fun e2 => ⟨by rw [e2]; simp, h⟩, fun e2 => ⟨fun e4 => ⟨by rw [e4]; simp, h⟩, fun e4 => ⟨fun e3 => ⟨by rw [e3]; simp, h⟩, fun e3 => ?_⟩⟩⟩⟩⟩
  have q := isH_t.mp e
  have q' := isH_t.mp e1
  have qc := isC_t.mp e2
  have yb := isB_t.mp e3
  have nb := isB_t.mp e4
  rw [e, e1, e2, e3, e4]
  simp only [Bool.and_self, if_true]
  have e0 : ffO (pd1 A g g' c) n'.toNat y = ffO (pd1 A g g' c) (min (y + n') 10000 - y).toNat y := by
    rw [show n'.toNat = (min (y + n') 10000 - y).toNat + (n'.toNat - (min (y + n') 10000 - y).toNat) by omega]
    exact ffO_t (fun k k1 k2 => pd1_o (by omega))
  rw [e0]
  refine T_lp (fun t => (y ≤ t.1 ∧ t.1 ≤ min (y + n') 10000) ∧ ffO (pd1 A g g' c) (min (y + n') 10000 - y).toNat y = ffO (pd1 A g g' c) (min (y + n') 10000 - t.1).toNat t.1 ∧ RR x o A t.2) (fun t => (min (y + n') 10000 - t.1).toNat) ?_ ⟨by dsimp only; omega, rfl, h⟩
  intro ⟨k, σ1⟩ ⟨k1, ef, h⟩
  dsimp only at k1 ef h
  unfold f_X6_part_b53
  rw [ef, J3_min (by omega) (by omega)]
  simp only [T_bind, T_some, T_cLt]
  refine ⟨by omega, fun z => ?_, fun z => ?_⟩
  · have st := ffO_s (pd1 A g g' c) z
    refine T_mono (X6_part1 h q.1 q.2 q'.1 q'.2 qc (by omega : inR k)) (fun r hr => ?_)
    cases e5 : pd1 A g g' c k with
    | some u =>
      rw [e5] at hr st
      obtain ⟨σ', er, h5⟩ := hr
      rw [er, st]
      exact ⟨rfl, h5⟩
    | none =>
      rw [e5] at hr st
      obtain ⟨σ', er, h5⟩ := hr
      rw [er]
      exact ⟨⟨by dsimp only; omega, by dsimp only; rw [st], h5⟩, by dsimp only; omega⟩
  · simp only [T_ex, T_some, Sum.elim_inr]
    rw [show (min (y + n') 10000 - k).toNat = 0 by omega]
    exact ⟨rfl, h⟩
theorem ptV_R (h : RR x o A σ) : inR (ptV A g g' c y n') := by
  unfold ptV
  split
  · rename_i z
    have z1 := Bool.and_eq_true_iff.mp z
    have z2 := Bool.and_eq_true_iff.mp z1.2
    have z3 := Bool.and_eq_true_iff.mp z2.2
    have qc := isC_t.mp z3.1
    cases e : ffO (pd1 A g g' c) n'.toNat y with
    | none => show inR (-1); omega
    | some u => exact ffO_P (P := fun u => inR u) (fun k u hu => ffO_P (P := fun u => inR u) (fun k2 u2 hu2 => ffO_P (P := fun u => inR u) (fun k3 u3 hu3 => pd3_b h qc hu3) hu2) hu) e
  · omega
/-- held -/
theorem evB_e : evB A d s = true ↔ ∃ k, (0 ≤ k ∧ k < (aV A 25 0)) ∧ aV A 23 k = d ∧ aV A 24 k = s := by
  unfold evB
  cases e : ffB (fun k => decide (aV A 23 k = d ∧ aV A 24 k = s)) ((aV A 25 0)).toNat 0 with
  | none =>
    refine ⟨fun q => (by cases q), fun ⟨k, hk, e1, e2⟩ => ?_⟩
    have := ffB_none e k hk.1 (by omega)
    simp [e1, e2] at this
  | some j =>
    obtain ⟨a, b, _⟩ := ffB_some e
    exact ⟨fun _ => ⟨j, by omega, by simpa using b⟩, fun _ => rfl⟩
theorem fo_bt {f : Int → Int → Int} {B : Int → Nat → Bool} (hf : ∀ b k i, i < 32 → bt (f b k) i = (bt b i || B k i)) (lo : Int) (i : Nat) (hi : i < 32) : ∀ n : Nat, bt (fo f 0 lo n) i = true ↔ ∃ k, (lo ≤ k ∧ k < lo + n) ∧ B k i = true
  | 0 => by
    show bt 0 i = true ↔ _
    rw [bt_0]
    exact ⟨fun q => (by cases q), fun ⟨k, hk, _⟩ => by omega⟩
  | n + 1 => by
    rw [fo_s, hf _ _ _ hi, Bool.or_eq_true, fo_bt hf lo i hi n]
    constructor
    · rintro (⟨k, hk, e⟩ | e)
      · exact ⟨k, by omega, e⟩
      · exact ⟨lo + n, by omega, e⟩
    · intro ⟨k, hk, e⟩
      by_cases c : k = lo + n
      · right; rw [← c]; exact e
      · left; exact ⟨k, by omega, e⟩
def heX (A : AS) (D : Int) (b s : Int) : Int := if evB A D s then bOr b (bShl 1 s) else bOr b 0
def heM (A : AS) (D : Int) (b k : Int) : Int := if aV A 23 k = D then bOr b (bShl 1 (aV A 24 k)) else bOr b 0
theorem E_held (h : RR x o A σ) (hc : inR c) (hy : inR y) (hm : inR m) (hd : inR d) : T (f_X1_held σ x c y m d) (fun r => f_X6_held σ o c y m d = some r ∧ inR r) := by
  have n := R_n h
  unfold f_X1_held f_X6_held
  rw [cO_t (R_x h), cO_t (R_o h), X6_isDat h hc hy hm hd]
  simp only [T_bind, T_some, T_cEq, bI_R, true_and, bI_0, Bool.not_eq_false, X1_isDate h hc hy hm hd, bd_s]
  refine ⟨fun e => ⟨by rw [e, cEq_bf], by omega⟩, fun e => ?_⟩
  obtain ⟨qc, qd⟩ := isD_t.mp e
  have hC := (R_cal h qc.1 qc.2).2
  have db := dayC_bb h qc (y := y) (m := m) (d := d)
  rw [e, cEq_bt]
  generalize hD : dayC (aC A c) y m d = D at db
  have vx : T (lp (fun s => f_X1_held_b20 σ x c y m d s.1 s.2) (0, 0)) (fun r => r = fo (heX A D) 0 0 4) := by
    refine T_lp (fun t => (0 ≤ t.2 ∧ t.2 ≤ 4) ∧ t.1 = fo (heX A D) 0 0 (t.2 - 0).toNat) (fun t => (4 - t.2).toNat) ?_ ⟨by dsimp only; omega, rfl⟩
    intro ⟨v, s⟩ ⟨s1, ev⟩
    dsimp only at s1 ev
    have st := fo_at (heX A D) 0 s1.1
    unfold f_X1_held_b20
    rw [(R_cal h qc.1 qc.2).1]
    simp only [T_cLt, T_ck, T_nnS, T_cO, T_bind, X2_day hC qd, T_some, hD, X1_holds h (by omega : inR D) (by omega : inR s), T_cEq, bI_R, true_and, bI_0, Bool.not_eq_false, Sum.elim_inl, T_ex, Sum.elim_inr]
    refine ⟨by omega, fun z => ⟨by omega, hC.1, fun z1 => ⟨⟨by omega, ?_⟩, by omega⟩, fun z1 => ⟨⟨by omega, ?_⟩, by omega⟩⟩, fun z => ?_⟩
    · rw [st, ← ev]; unfold heX; rw [z1]; rfl
    · rw [st, ← ev]; unfold heX; rw [z1]; rfl
    · have : s = 4 := by omega
      rw [ev, this]; rfl
  have vm : lp (fun s => f_X6_held_b20 σ o c y m d s.1 s.2) (0, 0) = some (fo (heM A D) 0 0 ((aV A 25 0)).toNat) := by
    refine T_eq.mp (T_lp (fun t => (0 ≤ t.2 ∧ t.2 ≤ (aV A 25 0)) ∧ t.1 = fo (heM A D) 0 0 (t.2 - 0).toNat) (fun t => ((aV A 25 0) - t.2).toNat) ?_ ⟨by dsimp only; omega, rfl⟩)
    intro ⟨v, k⟩ ⟨k1, ev⟩
    dsimp only at k1 ev
    have st := fo_at (heM A D) 0 k1.1
    have m63 : gI σ o 63 0 = (aV A 25 0) := h.2.2.2.1.2.2.2.2.2.2.1
    unfold f_X6_held_b20
    rw [m63, X6_dayO h e, hD]
    simp only [T_cLt]
    refine ⟨by omega, fun z => ?_, fun z => ?_⟩
    · obtain ⟨w1, w2⟩ := h.2.2.2.2.2.2.2.2.2.1 k k1.1 z
      have ev2 := h.2.1.2.2.2.2.2.1 k k1.1 z
      rw [w1, w2]
      simp only [T_some, T_none, T_ck, T_cLt, T_cEq, T_jLt, T_jEq, T_bind, T_bd2, T_wS, T_cO, T_nnS, T_cNullN, T_cNullS, T_bT1, T_bT2, T_ex, T_ite, T_dC, Sum.elim_inl, Sum.elim_inr]
      refine ⟨by omega, by omega, fun z1 => ⟨by omega, ⟨by omega, ?_⟩, by omega⟩, fun z1 => ⟨⟨by omega, ?_⟩, by omega⟩⟩
      · rw [st, ← ev]; unfold heM; rw [if_pos z1]
      · rw [st, ← ev]; unfold heM; rw [if_neg z1]
    · simp only [T_some, T_none, T_ck, T_cLt, T_cEq, T_jLt, T_jEq, T_bind, T_bd2, T_wS, T_cO, T_nnS, T_cNullN, T_cNullS, T_bT1, T_bT2, T_ex, T_ite, T_dC, Sum.elim_inl, Sum.elim_inr]
      rw [ev]; congr 1; omega
  have hx : inR (fo (heX A D) 0 0 4) := fo_R (by omega) (fun b k => by unfold heX; split <;> exact bOr_R _ _) _
  have hm' : inR (fo (heM A D) 0 0 ((aV A 25 0)).toNat) := fo_R (by omega) (fun b k => by unfold heM; split <;> exact bOr_R _ _) _
  have eq : fo (heX A D) 0 0 4 = fo (heM A D) 0 0 ((aV A 25 0)).toNat := by
    refine bt_ext hx hm' (fun i hi => ?_)
    have a1 := fo_cg (heX A D) (fun b s => if (0 ≤ s ∧ s < 4) ∧ evB A D s = true then bOr b (bShl 1 s) else bOr b 0) 0 0 4 (fun b k k1 k2 => by
      show heX A D b k = (if (0 ≤ k ∧ k < 4) ∧ evB A D k = true then bOr b (bShl 1 k) else bOr b 0)
      unfold heX
      cases e5 : evB A D k with
      | true => rw [if_pos rfl, if_pos ⟨by omega, rfl⟩]
      | false => rw [if_neg (by simp), if_neg (by simp)])
    have a2 := fo_cg (heM A D) (fun b k => if (0 ≤ k ∧ k < (aV A 25 0)) ∧ aV A 23 k = D then bOr b (bShl 1 (aV A 24 k)) else bOr b 0) 0 0 ((aV A 25 0)).toNat (fun b k k1 k2 => by
      show heM A D b k = (if (0 ≤ k ∧ k < (aV A 25 0)) ∧ aV A 23 k = D then bOr b (bShl 1 (aV A 24 k)) else bOr b 0)
      unfold heM
      by_cases e5 : aV A 23 k = D
      · rw [if_pos e5, if_pos ⟨by omega, e5⟩]
      · rw [if_neg e5, if_neg (fun q => e5 q.2)])
    rw [a1, a2]
    have b1 := fo_bt (f := fun b s => if (0 ≤ s ∧ s < 4) ∧ evB A D s = true then bOr b (bShl 1 s) else bOr b 0) (B := fun s j => decide (((0 ≤ s ∧ s < 4) ∧ evB A D s = true) ∧ j = s.toNat)) (fun b k j hj => by
      show bt (if (0 ≤ k ∧ k < 4) ∧ evB A D k = true then bOr b (bShl 1 k) else bOr b 0) j = _
      by_cases c : (0 ≤ k ∧ k < 4) ∧ evB A D k = true
      · rw [if_pos c, bt_or, bt_shl1 c.1.1 (by omega) j hj]; simp [c]
      · rw [if_neg c, bt_or, bt_0]; simp [c]) 0 i hi 4
    have b2 := fo_bt (f := fun b k => if (0 ≤ k ∧ k < (aV A 25 0)) ∧ aV A 23 k = D then bOr b (bShl 1 (aV A 24 k)) else bOr b 0) (B := fun k j => decide (((0 ≤ k ∧ k < (aV A 25 0)) ∧ aV A 23 k = D) ∧ j = (aV A 24 k).toNat)) (fun b k j hj => by
      show bt (if (0 ≤ k ∧ k < (aV A 25 0)) ∧ aV A 23 k = D then bOr b (bShl 1 (aV A 24 k)) else bOr b 0) j = _
      by_cases c : (0 ≤ k ∧ k < (aV A 25 0)) ∧ aV A 23 k = D
      · have ev2 := h.2.1.2.2.2.2.2.1 k c.1.1 c.1.2
        rw [if_pos c, bt_or, bt_shl1 (by omega) (by omega) j hj]; simp [c]
      · rw [if_neg c, bt_or, bt_0]; simp [c]) 0 i hi ((aV A 25 0)).toNat
    have iff : bt (fo (fun b s => if (0 ≤ s ∧ s < 4) ∧ evB A D s = true then bOr b (bShl 1 s) else bOr b 0) 0 0 4) i = true ↔ bt (fo (fun b k => if (0 ≤ k ∧ k < (aV A 25 0)) ∧ aV A 23 k = D then bOr b (bShl 1 (aV A 24 k)) else bOr b 0) 0 0 ((aV A 25 0)).toNat) i = true := by
      rw [b1, b2]
      constructor
      · intro ⟨s, hs, q⟩
        have q := of_decide_eq_true q
        obtain ⟨k, hk, k1, k2⟩ := evB_e.mp q.1.2
        exact ⟨k, by omega, decide_eq_true ⟨⟨hk, k1⟩, by rw [k2]; exact q.2⟩⟩
      · intro ⟨k, hk, q⟩
        have q := of_decide_eq_true q
        have ev2 := h.2.1.2.2.2.2.2.1 k q.1.1.1 q.1.1.2
        exact ⟨aV A 24 k, by omega, decide_eq_true ⟨⟨by omega, evB_e.mpr ⟨k, q.1.1, q.1.2, rfl⟩⟩, q.2⟩⟩
    cases c1 : bt (fo (fun b s => if (0 ≤ s ∧ s < 4) ∧ evB A D s = true then bOr b (bShl 1 s) else bOr b 0) 0 0 4) i <;> cases c2 : bt (fo (fun b k => if (0 ≤ k ∧ k < (aV A 25 0)) ∧ aV A 23 k = D then bOr b (bShl 1 (aV A 24 k)) else bOr b 0) 0 0 ((aV A 25 0)).toNat) i
    · rfl
    · have := iff.mpr c2; rw [c1] at this; cases this
    · have := iff.mp c1; rw [c2] at this; cases this
    · rfl
  refine T_mono vx (fun r hr => ?_)
  rw [vm, hr, eq]
  exact ⟨rfl, hm'⟩
end
