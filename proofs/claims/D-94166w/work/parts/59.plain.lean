/-! more calls that only look: many, unlike, held, spell, count -/
set_option maxRecDepth 100000
section
variable {σ : St} {x o a b : Nat} {A : AS} {g c y m d v : Int} {C C' : Cal}
theorem manyC_b (C : Cal) (y m : Int) : 0 ≤ manyC C y m ∧ manyC C y m ≤ 31 := by
  unfold manyC
  constructor
  · exact sm_0 (fun k _ _ => by have := bI_b (hasC C y m k); omega)
  · have := sm_u (fun d => bI (hasC C y m d)) 1 1 (fun k => by have := bI_b (hasC C y m k); omega) 31
    omega
/-- the model counts dates of one month -/
theorem X6_many1 (h : RR x o A σ) (hc : 0 ≤ c ∧ c < (aV A 6 0)) (hy : inR y) {k n' w : Int} (hk : inR k) : lp (fun s => f_X6_many_b63 σ o c y w k s.1 s.2) (n', 1) = some (.inl (n' + manyC (aC A c) y k, k + 1)) := by
  have n := R_n h
  have iD : ∀ y z w, isD A c y z w = hasC (aC A c) y z w := by intro y z w; unfold isD; rw [isC_t.mpr hc]; rfl
  refine T_eq.mp (T_lp (fun s => s.1 = n' + sm (fun d => bI (hasC (aC A c) y k d)) 1 (s.2 - 1).toNat ∧ (1 ≤ s.2 ∧ s.2 ≤ 32)) (fun s => (32 - s.2).toNat) ?_ ⟨by dsimp only; simp [sm], by dsimp only; omega⟩)
  intro ⟨v, j⟩ ⟨e, j1⟩
  dsimp only at e j1
  have hb := bI_b (hasC (aC A c) y k j)
  have st := sm_at (fun d => bI (hasC (aC A c) y k d)) j1.1
  unfold f_X6_many_b63
  simp only [T_some, T_none, T_ck, T_cLt, T_cEq, T_jLt, T_jEq, T_bind, T_bd2, T_wS, T_cO, T_nnS, T_cNullN, T_cNullS, T_bT1, T_bT2, T_ex, T_ite, T_dC, Sum.elim_inl, Sum.elim_inr, X6_isDat h (by omega : inR c) hy hk (by omega : inR j), iD]
  refine ⟨by omega, fun q => ?_, fun q => ⟨by omega, fun z => ⟨⟨?_, by omega⟩, by omega⟩, fun z => ⟨⟨?_, by omega⟩, by omega⟩⟩⟩
  · have : j = 32 := by omega
    rw [e, this]; rfl
  · rw [st, e]; omega
  · rw [st, e]; omega
theorem E_many (h : RR x o A σ) (hc : inR c) (hy : inR y) (hm : inR m) : T (f_X1_many σ x c y m) (fun r => f_X6_many σ o c y m = some r ∧ inR r) := by
  have n := R_n h
  unfold f_X1_many f_X6_many
  rw [cO_t (R_x h), cO_t (R_o h), X6_isCal h hc, X6_isB hy (by omega) (by omega), X6_isB hm (by omega) (by omega)]
  simp only [T_bind, T_some, T_cEq, bI_R, true_and, bI_0, Bool.not_eq_false, X1_isCalendar h hc, X1_isYear hy, bd_s, T_ck, T_cLt, X1_isB (by omega : inL m) (by omega : inL 0) (by omega : inL 12)]
  refine ⟨fun e => ⟨by rw [e, cEq_bf], by omega⟩, fun e => ⟨fun e1 => ⟨by rw [e, e1, cEq_bt, cEq_bf], by omega⟩, fun e1 => ⟨hm, fun e2 => ⟨by rw [e, e1, e2, cEq_bt, cEq_bt, cEq_bf], by omega⟩, fun e2 => ?_⟩⟩⟩
  have q := isC_t.mp e
  have yb := isB_t.mp e1
  have mb := isB_t.mp e2
  obtain ⟨p1, p2⟩ := R_cal h q.1 q.2
  rw [e, e1, e2, cEq_bt, cEq_bt, cEq_bt]
  unfold f_X6_many_j43
  refine ⟨by omega, fun z => ⟨by omega, ?_⟩, fun z => ?_⟩
  · rw [p1]
    have mcb := manyC_b (aC A c) y m
    simp only [T_some, T_none, T_ck, T_cLt, T_cEq, T_jLt, T_jEq, T_bind, T_bd2, T_wS, T_cO, T_nnS, T_cNullN, T_cNullS, T_bT1, T_bT2, T_ex, T_ite, T_dC, Sum.elim_inl, Sum.elim_inr, X2_manyIn p2 hy hm]
    refine ⟨p2.1, ?_, by omega⟩
    rw [cEq_f hm (by omega) (by omega)]
    refine T_eq.mp (T_lp (fun s => (s.2 = m ∧ s.1 = 0) ∨ (s.2 = m + 1 ∧ s.1 = manyC (aC A c) y m)) (fun s => (m + 1 - s.2).toNat) ?_ (Or.inl ⟨rfl, rfl⟩))
    intro ⟨v, k⟩ hs
    dsimp only at hs
    unfold f_X6_many_b45 f_X6_many_j57
    rw [cEq_f hm (by omega) (by omega), X6_many1 h q hy (by omega)]
    simp only [T_some, T_none, T_ck, T_cLt, T_cEq, T_jLt, T_jEq, T_bind, T_bd2, T_wS, T_cO, T_nnS, T_cNullN, T_cNullS, T_bT1, T_bT2, T_ex, T_ite, T_dC, Sum.elim_inl, Sum.elim_inr]
    rcases hs with ⟨s1, s2⟩ | ⟨s1, s2⟩
    · refine ⟨by omega, fun q => by omega, fun q => ⟨Or.inr ⟨by omega, ?_⟩, by omega⟩⟩
      rw [s1, s2]; omega
    · exact ⟨by omega, fun q => s2, fun q => by omega⟩
  · have m0 : m = 0 := by omega
    subst m0
    rw [cEq_t hm (by omega) rfl]
    refine T_mono (P := fun r => r = sm (manyC (aC A c) y) 1 12) (T_lp (fun s => s.1 = sm (manyC (aC A c) y) 1 (s.2 - 1).toNat ∧ (1 ≤ s.2 ∧ s.2 ≤ 13)) (fun s => (13 - s.2).toNat) ?_ ⟨rfl, by dsimp only; omega⟩) (fun r hr => ?_)
    · intro ⟨v, j⟩ ⟨e', j1⟩
      dsimp only at e' j1
      have st := sm_at (manyC (aC A c) y) j1.1
      unfold f_X1_many_b51
      rw [p1]
      simp only [T_some, T_none, T_ck, T_cLt, T_cEq, T_jLt, T_jEq, T_bind, T_bd2, T_wS, T_cO, T_nnS, T_cNullN, T_cNullS, T_bT1, T_bT2, T_ex, T_ite, T_dC, Sum.elim_inl, Sum.elim_inr, X2_manyIn p2 hy (by omega : inR j)]
      refine ⟨by omega, fun q => ⟨by omega, p2.1, ⟨?_, by omega⟩, by omega⟩, fun q => ?_⟩
      · rw [st, e']
      · have : j = 13 := by omega
        rw [e', this]; rfl
    · have s0 := sm_0 (g := manyC (aC A c) y) (lo := 1) (n := 12) (fun k _ _ => (manyC_b _ _ _).1)
      have s1 := sm_u (manyC (aC A c) y) 1 31 (fun k => (manyC_b _ _ _).2) 12
      rw [hr]
      refine ⟨?_, by omega⟩
      refine T_eq.mp (T_lp (fun s => s.1 = sm (manyC (aC A c) y) 1 (s.2 - 1).toNat ∧ (1 ≤ s.2 ∧ s.2 ≤ 13)) (fun s => (13 - s.2).toNat) ?_ ⟨rfl, by dsimp only; omega⟩)
      intro ⟨v, j⟩ ⟨e', j1⟩
      dsimp only at e' j1
      have st := sm_at (manyC (aC A c) y) j1.1
      unfold f_X6_many_b45 f_X6_many_j57
      rw [cEq_t hm (by omega) rfl, X6_many1 h q hy (by omega)]
      simp only [T_some, T_none, T_ck, T_cLt, T_cEq, T_jLt, T_jEq, T_bind, T_bd2, T_wS, T_cO, T_nnS, T_cNullN, T_cNullS, T_bT1, T_bT2, T_ex, T_ite, T_dC, Sum.elim_inl, Sum.elim_inr]
      refine ⟨by omega, fun q => ?_, fun q => ⟨⟨?_, by omega⟩, by omega⟩⟩
      · have : j = 13 := by omega
        rw [e', this]; rfl
      · rw [st, e']
theorem paR_eq {k : Int} (hC : calOK C) (hC' : calOK C') : (∀ w, 0 ≤ w → w ≤ 2 → (if dateC C k = -1 then (-1 : Int) else paR (dateC C k) w) = (if dateC C' k = -1 then -1 else paR (dateC C' k) w)) → dateC C k = dateC C' k := by
  intro hw
  have h0 := hw 0 (by omega) (by omega)
  have h1 := hw 1 (by omega) (by omega)
  have h2 := hw 2 (by omega) (by omega)
  by_cases e1 : dateC C k = -1
  · by_cases e2 : dateC C' k = -1
    · rw [e1, e2]
    · have := (paR_b hC' (w := 0) e2).2
      rw [if_pos e1, if_neg e2] at h0
      omega
  · by_cases e2 : dateC C' k = -1
    · have := (paR_b hC (w := 0) e1).2
      rw [if_neg e1, if_pos e2] at h0
      omega
    · rw [if_neg e1, if_neg e2] at h0 h1 h2
      have b1 := (paR_b hC (w := 0) e1).1
      have b2 := (paR_b hC' (w := 0) e2).1
      simp only [paR, if_pos, show ((1 : Int) = 0) = False by simp, show ((2 : Int) = 0) = False by simp, show ((2 : Int) = 1) = False by simp, if_false] at h0 h1 h2
      rw [Int.tdiv_eq_ediv_of_nonneg (by omega), Int.tdiv_eq_ediv_of_nonneg (by omega)] at h0
      rw [Int.tdiv_eq_ediv_of_nonneg (by omega), Int.tdiv_eq_ediv_of_nonneg (by omega), Int.tmod_eq_emod_of_nonneg (by omega), Int.tmod_eq_emod_of_nonneg (by omega)] at h1
      rw [Int.tmod_eq_emod_of_nonneg (by omega), Int.tmod_eq_emod_of_nonneg (by omega)] at h2
      omega
theorem X1_isUnlike {k : Int} (h1 : CalX σ a C) (h2 : CalX σ b C') (hk : inR k) : f_X1_isUnlike σ a b k = some (bI (decide (¬ dateC C k = dateC C' k))) := by
  have hC := h1.2.2.2
  have hC' := h2.2.2.2
  unfold f_X1_isUnlike
  refine T_eq.mp (T_lp (fun w => (0 ≤ w ∧ w ≤ 3) ∧ ∀ u, 0 ≤ u → u < w → (if dateC C k = -1 then (-1 : Int) else paR (dateC C k) u) = (if dateC C' k = -1 then -1 else paR (dateC C' k) u)) (fun w => (3 - w).toNat) ?_ ⟨by omega, fun u _ _ => by omega⟩)
  intro w ⟨w1, w2⟩
  unfold f_X1_isUnlike_b2
  simp only [T_cLt]
  refine ⟨by omega, fun q => ?_, fun q => ?_⟩
  · rw [X2_date h1 hk (by omega) (by omega), X2_date h2 hk (by omega) (by omega)]
    simp only [show ¬ w = 3 by omega, if_false]
    have r1 : inR (if dateC C k = -1 then (-1 : Int) else paR (dateC C k) w) := by
      split
      · omega
      · rename_i z; have := (paR_b hC (w := w) z).2; constructor <;> omega
    have r2 : inR (if dateC C' k = -1 then (-1 : Int) else paR (dateC C' k) w) := by
      split
      · omega
      · rename_i z; have := (paR_b hC' (w := w) z).2; constructor <;> omega
    simp only [T_some, T_none, T_ck, T_cLt, T_cEq, T_jLt, T_jEq, T_bind, T_bd2, T_wS, T_cO, T_nnS, T_cNullN, T_cNullS, T_bT1, T_bT2, T_ex, T_ite, T_dC, Sum.elim_inl, Sum.elim_inr]
    refine ⟨h1.1, h2.1, ⟨r1, r2⟩, fun z => ⟨⟨by omega, fun u u1 u2 => ?_⟩, by omega⟩, fun z => ?_⟩
    · by_cases c : u = w
      · rw [c]; exact z
      · exact w2 u u1 (by omega)
    · rw [decide_eq_true (show ¬ dateC C k = dateC C' k from fun e => z (by rw [e]))]; rfl
  · simp only [T_some, T_none, T_ck, T_cLt, T_cEq, T_jLt, T_jEq, T_bind, T_bd2, T_wS, T_cO, T_nnS, T_cNullN, T_cNullS, T_bT1, T_bT2, T_ex, T_ite, T_dC, Sum.elim_inl, Sum.elim_inr]
    rw [decide_eq_false]
    · rfl
    · intro z; exact z (paR_eq hC hC' (fun u u1 u2 => w2 u u1 (by omega)))
theorem dateC_R (hC : calOK C) {k : Int} : inR (dateC C k) := by
  by_cases z : dateC C k = -1
  · rw [z]; omega
  · have := (paR_b hC (w := 0) z).1; constructor <;> omega
theorem E_unlike (h : RR x o A σ) {c' k : Int} (hc : inR c) (hc' : inR c') (hk : inR k) : T (f_X1_unlike σ x c c' k) (fun r => f_X6_unlike σ o c c' k = some r ∧ inR r) := by
  have n := R_n h
  unfold f_X1_unlike f_X6_unlike
  rw [cO_t (R_x h), cO_t (R_o h), X6_isCal h hc, X6_isCal h hc', X6_isB hk (by omega) (by omega)]
  simp only [T_bind, T_some, T_cEq, bI_R, true_and, bI_0, Bool.not_eq_false, X1_isCalendar h hc, X1_isCalendar h hc', bd_s, T_ck, X1_isB (by omega : inL k) (by omega : inL 0) (by omega : inL 4000000)]
  refine ⟨fun e => ⟨by rw [e, cEq_bf], by omega⟩, fun e => ⟨fun e1 => ⟨by rw [e, e1, cEq_bt, cEq_bf], by omega⟩, fun e1 => ⟨hk, fun e2 => ⟨by rw [e, e1, e2, cEq_bt, cEq_bt, cEq_bf], by omega⟩, fun e2 => ?_⟩⟩⟩
  have q := isC_t.mp e
  have q' := isC_t.mp e1
  have kb := isB_t.mp e2
  obtain ⟨p1, p2⟩ := R_cal h q.1 q.2
  obtain ⟨p3, p4⟩ := R_cal h q'.1 q'.2
  rw [e, e1, e2, cEq_bt, cEq_bt, cEq_bt]
  refine T_lp2 (fun j : Int => k ≤ j ∧ j ≤ k + 5000) (fun j => (k + 5000 - j).toNat) ?_ ⟨by omega, by omega⟩
  intro j ⟨j1, j2⟩
  unfold f_X1_unlike_b33 f_X6_unlike_b32
  have un := X1_isUnlike p2 p4 (k := j) (by omega)
  rw [p1, p3, X6_dateO h q (by omega), X6_dateO h q' (by omega)]
  constructor
  · rw [ck_t (by omega)]
    simp only [nn, Option.bind_some, un]
    rw [ck_t (by omega)]
    by_cases z : dateC (aC A c) j = dateC (aC A c') j
    · rw [cEq_t (dateC_R p2.2.2.2) (dateC_R p4.2.2.2) z, decide_eq_false (fun w => w z), cEq_bf]
    · rw [cEq_f (dateC_R p2.2.2.2) (dateC_R p4.2.2.2) z, decide_eq_true z, cEq_bt]
  · simp only [T_some, T_none, T_ck, T_cLt, T_cEq, T_jLt, T_jEq, T_bind, T_bd2, T_wS, T_cO, T_nnS, T_cNullN, T_cNullS, T_bT1, T_bT2, T_ex, T_ite, T_dC, Sum.elim_inl, Sum.elim_inr, un, bI_R, true_and, bI_0, Bool.not_eq_false]
    refine ⟨by omega, fun z => ⟨by omega, by omega, fun _ => ⟨⟨by omega, by omega⟩, by omega⟩, fun _ => by omega⟩, fun z => by omega⟩
/-- whether an event of a sort was on a day -/
def evB (A : AS) (day s : Int) : Bool := (ffB (fun k => decide (aV A 23 k = day ∧ aV A 24 k = s)) ((aV A 25 0)).toNat 0).isSome
theorem X1_holds (h : RR x o A σ) {day s : Int} (hd : inR day) (hs : inR s) : f_X1_holds σ x day s = some (bI (evB A day s)) := by
  have n := R_n h
  unfold f_X1_holds
  rw [cO_t (R_x h)]
  refine T_eq.mp (T_lp (fun k => (0 ≤ k ∧ k ≤ (aV A 25 0)) ∧ ffB (fun k => decide (aV A 23 k = day ∧ aV A 24 k = s)) ((aV A 25 0)).toNat 0 = ffB (fun k => decide (aV A 23 k = day ∧ aV A 24 k = s)) ((aV A 25 0) - k).toNat k) (fun k => ((aV A 25 0) - k).toNat) ?_ ⟨by omega, by rw [show (aV A 25 0) - 0 = (aV A 25 0) by omega]⟩)
  intro k ⟨k1, k2⟩
  unfold f_X1_holds_b2
  simp only [R_v h (show ¬ ((25 : Nat) = 8 ∨ (25 : Nat) = 11 ∨ (25 : Nat) = 21) by omega), R_v h (show ¬ ((23 : Nat) = 8 ∨ (23 : Nat) = 11 ∨ (23 : Nat) = 21) by omega), R_v h (show ¬ ((24 : Nat) = 8 ∨ (24 : Nat) = 11 ∨ (24 : Nat) = 21) by omega)]
  simp only [T_cLt]
  refine ⟨by omega, fun q => ?_, fun q => ?_⟩
  · have ev := h.2.1.2.2.2.2.2.1 k k1.1 q
    have st := ffB_s (fun k => decide (aV A 23 k = day ∧ aV A 24 k = s)) q
    simp only [T_some, T_none, T_ck, T_cLt, T_cEq, T_jLt, T_jEq, T_bind, T_bd2, T_wS, T_cO, T_nnS, T_cNullN, T_cNullS, T_bT1, T_bT2, T_ex, T_ite, T_dC, Sum.elim_inl, Sum.elim_inr]
    refine ⟨by omega, by omega, fun z => ⟨by omega, by omega, fun z1 => ?_, fun z1 => ⟨⟨by omega, ?_⟩, by omega⟩⟩, fun z => ⟨⟨by omega, ?_⟩, by omega⟩⟩
    · unfold evB; rw [k2, st, if_pos (by simp [z, z1])]; rfl
    · rw [k2, st, if_neg (by simp [z1])]
    · rw [k2, st, if_neg (by simp [z])]
  · simp only [T_some, T_none, T_ck, T_cLt, T_cEq, T_jLt, T_jEq, T_bind, T_bd2, T_wS, T_cO, T_nnS, T_cNullN, T_cNullS, T_bT1, T_bT2, T_ex, T_ite, T_dC, Sum.elim_inl, Sum.elim_inr]
    unfold evB; rw [k2, show ((aV A 25 0) - k).toNat = 0 by omega]; rfl
theorem X6_hasEvent (h : RR x o A σ) {day s : Int} (hd : inR day) (hs : inR s) : f_X6_hasEvent σ o day s = some (bI (evB A day s)) := by
  have n := R_n h
  have hm := h.2.2.2
  unfold f_X6_hasEvent
  rw [cO_t (R_o h)]
  refine T_eq.mp (T_lp (fun k => (0 ≤ k ∧ k ≤ (aV A 25 0)) ∧ ffB (fun k => decide (aV A 23 k = day ∧ aV A 24 k = s)) ((aV A 25 0)).toNat 0 = ffB (fun k => decide (aV A 23 k = day ∧ aV A 24 k = s)) ((aV A 25 0) - k).toNat k) (fun k => ((aV A 25 0) - k).toNat) ?_ ⟨by omega, by rw [show (aV A 25 0) - 0 = (aV A 25 0) by omega]⟩)
  intro k ⟨k1, k2⟩
  unfold f_X6_hasEvent_b2
  rw [hm.1.2.2.2.2.2.2.1]
  simp only [T_cLt]
  refine ⟨by omega, fun q => ?_, fun q => ?_⟩
  · have ev := h.2.1.2.2.2.2.2.1 k k1.1 q
    obtain ⟨m1, m2⟩ := hm.2.2.2.2.2.2.1 k k1.1 q
    rw [m1, m2]
    have st := ffB_s (fun k => decide (aV A 23 k = day ∧ aV A 24 k = s)) q
    simp only [T_some, T_none, T_ck, T_cLt, T_cEq, T_jLt, T_jEq, T_bind, T_bd2, T_wS, T_cO, T_nnS, T_cNullN, T_cNullS, T_bT1, T_bT2, T_ex, T_ite, T_dC, Sum.elim_inl, Sum.elim_inr]
    refine ⟨by omega, by omega, fun z => ⟨by omega, by omega, fun z1 => ?_, fun z1 => ⟨⟨by omega, ?_⟩, by omega⟩⟩, fun z => ⟨⟨by omega, ?_⟩, by omega⟩⟩
    · unfold evB; rw [k2, st, if_pos (by simp [z, z1])]; rfl
    · rw [k2, st, if_neg (by simp [z1])]
    · rw [k2, st, if_neg (by simp [z])]
  · simp only [T_some, T_none, T_ck, T_cLt, T_cEq, T_jLt, T_jEq, T_bind, T_bd2, T_wS, T_cO, T_nnS, T_cNullN, T_cNullS, T_bT1, T_bT2, T_ex, T_ite, T_dC, Sum.elim_inl, Sum.elim_inr]
    unfold evB; rw [k2, show ((aV A 25 0) - k).toNat = 0 by omega]; rfl
theorem E_count (h : RR x o A σ) {w : Int} (hw : inR w) : T (f_X1_count σ x w) (fun r => f_X6_count σ o w = some r ∧ inR r) := by
  have n := R_n h
  have nn := h.2.1.1
  have hm := h.2.2.2.1
  have bt := h.2.1.2.2.2.2.2.2.1
  have br : inR (aV A 14 0) := by
    rcases bt with e | ⟨e1, e2⟩
    · rw [e]; omega
    · rw [e2]; have := dayC_bb h e1.1 (y := aBy A) (m := aBm A) (d := aBd A); constructor <;> omega
  have ex : f_X6_count σ o w = f_X1_count σ x w := by
    unfold f_X6_count f_X1_count
    rw [cO_t (R_x h), cO_t (R_o h), hm.2.1, hm.2.2.1, hm.2.2.2.1, hm.2.2.2.2.1, hm.2.2.2.2.2.1, hm.2.2.2.2.2.2.1, hm.2.2.2.2.2.2.2.1, hm.2.2.2.2.2.2.2.2.2.2.2]
    simp only [R_v h (show ¬ ((6 : Nat) = 8 ∨ (6 : Nat) = 11 ∨ (6 : Nat) = 21) by omega), R_v h (show ¬ ((7 : Nat) = 8 ∨ (7 : Nat) = 11 ∨ (7 : Nat) = 21) by omega), R_v h (show ¬ ((13 : Nat) = 8 ∨ (13 : Nat) = 11 ∨ (13 : Nat) = 21) by omega), R_v h (show ¬ ((20 : Nat) = 8 ∨ (20 : Nat) = 11 ∨ (20 : Nat) = 21) by omega), R_v h (show ¬ ((25 : Nat) = 8 ∨ (25 : Nat) = 11 ∨ (25 : Nat) = 21) by omega), R_v h (show ¬ ((1 : Nat) = 8 ∨ (1 : Nat) = 11 ∨ (1 : Nat) = 21) by omega), R_v h (show ¬ ((14 : Nat) = 8 ∨ (14 : Nat) = 11 ∨ (14 : Nat) = 21) by omega), R_v h (show ¬ ((10 : Nat) = 8 ∨ (10 : Nat) = 11 ∨ (10 : Nat) = 21) by omega)]
  rw [ex]
  have key : T (f_X1_count σ x w) (fun r => inR r) := by
    unfold f_X1_count
    rw [cO_t (R_x h)]
    simp only [R_v h (show ¬ ((6 : Nat) = 8 ∨ (6 : Nat) = 11 ∨ (6 : Nat) = 21) by omega), R_v h (show ¬ ((7 : Nat) = 8 ∨ (7 : Nat) = 11 ∨ (7 : Nat) = 21) by omega), R_v h (show ¬ ((13 : Nat) = 8 ∨ (13 : Nat) = 11 ∨ (13 : Nat) = 21) by omega), R_v h (show ¬ ((20 : Nat) = 8 ∨ (20 : Nat) = 11 ∨ (20 : Nat) = 21) by omega), R_v h (show ¬ ((25 : Nat) = 8 ∨ (25 : Nat) = 11 ∨ (25 : Nat) = 21) by omega), R_v h (show ¬ ((1 : Nat) = 8 ∨ (1 : Nat) = 11 ∨ (1 : Nat) = 21) by omega), R_v h (show ¬ ((14 : Nat) = 8 ∨ (14 : Nat) = 11 ∨ (14 : Nat) = 21) by omega), R_v h (show ¬ ((10 : Nat) = 8 ∨ (10 : Nat) = 11 ∨ (10 : Nat) = 21) by omega), T_some, T_none, T_ck, T_cLt, T_cEq, T_jLt, T_jEq, T_bind, T_bd2, T_wS, T_cO, T_nnS, T_cNullN, T_cNullS, T_bT1, T_bT2, T_ex, T_ite, T_dC, Sum.elim_inl, Sum.elim_inr]
    refine ⟨by omega, fun _ => by omega, fun _ => ⟨by omega, fun _ => by omega, fun _ => ⟨by omega, fun _ => by omega, fun _ => ⟨by omega, fun _ => by omega, fun _ => ⟨by omega, fun _ => by omega, fun _ => ⟨by omega, fun _ => by omega, fun _ => ⟨by omega, fun _ => br, fun _ => ⟨by omega, fun _ => by omega, fun _ => by omega⟩⟩⟩⟩⟩⟩⟩⟩
  obtain ⟨r, e, q⟩ := key
  exact ⟨r, e, e, q⟩
end
