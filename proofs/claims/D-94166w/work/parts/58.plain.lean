/-! calls that only look: dates, kinds, lists -/
set_option maxRecDepth 100000
theorem lp_cg {S R : Type} {b b' : S → Option (S ⊕ R)} (I : S → Prop) (h : ∀ s, I s → b s = b' s ∧ ∀ s', b s = some (.inl s') → I s') {s : S} (h0 : I s) : lp b s = lp b' s := by
  have key : ∀ n s, I s → lpN b n s = lpN b' n s := by
    intro n
    induction n with
    | zero => intro s _; rfl
    | succ n ih =>
      intro s hs
      rw [lpN_s, lpN_s, ← (h s hs).1]
      cases e : b s with
      | none => rfl
      | some q =>
        cases q with
        | inl s' => exact ih s' ((h s hs).2 s' e)
        | inr r => rfl
  cases e : lp b s with
  | some r =>
    obtain ⟨n, hn⟩ := lp_to e
    rw [key n s h0] at hn
    exact (lp_of hn).symm
  | none =>
    cases e' : lp b' s with
    | none => rfl
    | some r =>
      obtain ⟨n, hn⟩ := lp_to e'
      rw [← key n s h0] at hn
      rw [lp_of hn] at e; cases e
theorem T_lp2 {S R : Type} {b b' : S → Option (S ⊕ R)} {Q : R → Prop} (I : S → Prop) (μ : S → Nat) (h : ∀ s, I s → b s = b' s ∧ T (b s) (Sum.elim (fun s' => I s' ∧ μ s' < μ s) Q)) {s : S} (h0 : I s) : T (lp b s) (fun r => lp b' s = some r ∧ Q r) := by
  obtain ⟨r, e, q⟩ := T_lp I μ (fun s hs => (h s hs).2) h0
  refine ⟨r, e, ?_, q⟩
  rw [← lp_cg I (fun s hs => ⟨(h s hs).1, fun s' e => ?_⟩) h0]
  · exact e
  · obtain ⟨x, e2, hx⟩ := (h s hs).2
    rw [e] at e2
    cases e2
    exact hx.1
theorem cLt_flip {R : Type} {v n n' : Int} (X Y : Option R) (hv : inR v) (hn : inR n) (hn' : inR n') (e : n' = n + 1) : cLt n v X Y = cLt v n' Y X := by
  by_cases c : n < v
  · rw [cLt_t hn hv c, cLt_f hv hn' (by omega)]
  · rw [cLt_f hn hv c, cLt_t hv hn' (by omega)]
theorem bOr_R (a b : Int) : inR (bOr a b) := by
  unfold bOr
  exact ⟨Int32.le_toInt _, Int32.toInt_lt _⟩
theorem bI_t : bI true = 1 := rfl
theorem bI_f : bI false = 0 := rfl
theorem cEq_bf {R : Type} (X Y : Option R) : cEq (bI false) 0 X Y = X := cEq_t (by show inR 0; omega) (by omega) rfl
theorem cEq_bt {R : Type} (X Y : Option R) : cEq (bI true) 0 X Y = Y := cEq_f (by show inR 1; omega) (by omega) (by show ¬ (1 : Int) = 0; omega)
theorem bd_s {X Y : Type} (a : X) (f : X → Option Y) : (some a).bind f = f a := rfl
section
variable {σ : St} {x o a : Nat} {A : AS} {g c y m d v : Int} {C : Cal}
theorem dateC_neg (hC : calOK C) {k : Int} (hk : k < 0) : dateC C k = -1 := by
  rcases dateC_cd hC k with e | ⟨j, y, m, d, h1, _⟩
  · exact e
  · obtain ⟨a, b, _⟩ := cA_some h1
    have := hC.2.1 j a.1 a.2
    rw [eD_t] at b
    have := this.2.1
    omega
theorem X6_partOf {w : Int} (hv : inR v) (hw : inR w) (h0 : -1 ≤ v) : f_X6_partOf σ v w = some (paR v w) := by
  unfold f_X6_partOf paR
  have e : inR (Int.tdiv v 100) := by
    by_cases c : v = -1
    · subst c; constructor <;> decide
    · rw [Int.tdiv_eq_ediv_of_nonneg (by omega)]; constructor <;> omega
  refine T_eq.mp ?_
  simp only [T_some, T_none, T_ck, T_cLt, T_cEq, T_jLt, T_jEq, T_bind, T_bd2, T_wS, T_cO, T_nnS, T_cNullN, T_cNullS, T_bT1, T_bT2, T_ex, T_ite, T_dC, Sum.elim_inl, Sum.elim_inr]
  refine ⟨by omega, fun q => ⟨hv, by rw [if_pos q]⟩, fun q => ⟨by omega, fun q1 => ⟨hv, e, by rw [if_neg q, if_pos q1]⟩, fun q1 => ⟨hv, by rw [if_neg q, if_neg q1]⟩⟩⟩
theorem paR_b (hC : calOK C) {k w : Int} (hn : ¬ dateC C k = -1) : (10101 ≤ dateC C k ∧ dateC C k ≤ 100001231) ∧ (0 ≤ paR (dateC C k) w ∧ paR (dateC C k) w ≤ 9999) := by
  rcases dateC_cd hC k with e | ⟨j, y, m, d, h1, h2, h3, h4, h5⟩
  · exact absurd e hn
  · obtain ⟨a, b, _⟩ := cA_some h1
    have lo := (hC.2.1 j a.1 a.2).1
    have lb := len_b lo y m
    obtain ⟨q1, q2, q3⟩ := cdO_y lo h2
    have cb := cdO_b (y := y) (m := m) (d := d) ⟨h2.1, h2.2.1, by have := h2.2.2; omega⟩
    have v1 := h2.1
    have v2 := h2.2.1
    have v3 := h2.2.2
    rw [h5]
    refine ⟨cb, ?_⟩
    unfold paR
    rw [q1, q2, q3]
    split
    · omega
    · split <;> omega
/-- a date's part: the answer of both -/
noncomputable def dpV (C : Cal) (k w : Int) : Int := if dateC C k = -1 then -1 else if w = 3 then Int.tmod k 7 else paR (dateC C k) w
theorem dpV_R (hC : calOK C) {k w : Int} : inR (dpV C k w) := by
  unfold dpV
  split
  · omega
  · rename_i q
    split
    · exact tmod_R
    · have := (paR_b hC (k := k) (w := w) q).2; constructor <;> omega
theorem M_date (h : RR x o A σ) {k w : Int} (hc : inR c) (hk : inR k) (hw : inR w) : f_X6_date σ o c k w = some (if isC A c && isB w 0 3 then dpV (aC A c) k w else -1) := by
  unfold f_X6_date dpV
  rw [cO_t (R_o h)]
  refine T_eq.mp ?_
  simp only [T_bind, T_some, T_cEq, bI_R, true_and, bI_0, Bool.not_eq_false, X6_isCal h hc, X6_isB hw (by omega : inR 0) (by omega : inR 3)]
  refine ⟨fun e => by rw [e]; rfl, fun e => ⟨fun e1 => by rw [e1]; simp, fun e1 => ?_⟩⟩
  have q := isC_t.mp e
  have hC := R_cO h q.1 q.2
  rw [e, e1]
  simp only [T_bind, T_some, X6_dateO h q hk]
  by_cases z : dateC (aC A c) k = -1
  · rw [z]
    simp only [T_some, T_none, T_ck, T_cLt, T_cEq, T_jLt, T_jEq, T_bind, T_bd2, T_wS, T_cO, T_nnS, T_cNullN, T_cNullS, T_bT1, T_bT2, T_ex, T_ite, T_dC, Sum.elim_inl, Sum.elim_inr]
    exact ⟨by omega, fun _ => rfl, fun q => absurd trivial q⟩
  · have pb := paR_b hC (w := w) z
    simp only [T_some, T_none, T_ck, T_cLt, T_cEq, T_jLt, T_jEq, T_bind, T_bd2, T_wS, T_cO, T_nnS, T_cNullN, T_cNullS, T_bT1, T_bT2, T_ex, T_ite, T_dC, Sum.elim_inl, Sum.elim_inr, X6_partOf (by omega : inR (dateC (aC A c) k)) hw (by omega : -1 ≤ dateC (aC A c) k)]
    refine ⟨by omega, fun q => absurd q z, fun _ => ⟨by omega, fun w3 => ⟨hk, ?_⟩, fun w3 => ?_⟩⟩
    · simp [z, w3]
    · simp [z, w3]
theorem E_date (h : RR x o A σ) {k w : Int} (hc : inR c) (hk : inR k) (hw : inR w) : T (f_X1_date σ x c k w) (fun r => f_X6_date σ o c k w = some r ∧ inR r) := by
  have n := R_n h
  rw [M_date h hc hk hw]
  unfold f_X1_date
  rw [cO_t (R_x h)]
  simp only [T_bind, T_some, T_cEq, bI_R, true_and, bI_0, Bool.not_eq_false, X1_isCalendar h hc, T_cLt, T_ck, X1_isB (by omega : inL w) (by omega : inL 0) (by omega : inL 3)]
  refine ⟨fun e => ⟨by rw [e]; rfl, by omega⟩, fun e => ?_⟩
  have q := isC_t.mp e
  obtain ⟨p1, p2⟩ := R_cal h q.1 q.2
  have hC := R_cO h q.1 q.2
  refine ⟨by omega, fun z => ⟨?_, by omega⟩, fun z => ⟨hw, fun e1 => ⟨by rw [e1]; simp, by omega⟩, fun e1 => ⟨by omega, ?_⟩⟩⟩
  · unfold dpV; rw [dateC_neg hC z]; simp
  · have wb := isB_t.mp e1
    rw [p1, e, e1]
    simp only [T_some, T_none, T_ck, T_cLt, T_cEq, T_jLt, T_jEq, T_bind, T_bd2, T_wS, T_cO, T_nnS, T_cNullN, T_cNullS, T_bT1, T_bT2, T_ex, T_ite, T_dC, Sum.elim_inl, Sum.elim_inr, X2_date p2 hk wb.1 wb.2]
    exact ⟨p2.1, rfl, dpV_R hC⟩
theorem E_turned (h : RR x o A σ) {c2 w : Int} (hc : inR c) (hy : inR y) (hm : inR m) (hd : inR d) (hc2 : inR c2) (hw : inR w) : T (f_X1_turned σ x c y m d c2 w) (fun r => f_X6_turned σ o c y m d c2 w = some r ∧ inR r) := by
  have n := R_n h
  unfold f_X1_turned f_X6_turned
  rw [cO_t (R_x h), cO_t (R_o h), X6_isDat h hc hy hm hd, X6_isCal h hc2, X6_isB hw (by omega) (by omega)]
  simp only [T_bind, T_some, T_cEq, bI_R, true_and, bI_0, Bool.not_eq_false, X1_isDate h hc hy hm hd, X1_isCalendar h hc2, T_ck, X1_isB (by omega : inL w) (by omega : inL 0) (by omega : inL 2), bd_s]
  refine ⟨fun e => ⟨by rw [e, cEq_bf], by omega⟩, fun e => ⟨fun e1 => ⟨by rw [e, e1, cEq_bt, cEq_bf], by omega⟩, fun e1 => ⟨hw, fun e2 => ⟨by rw [e, e1, e2, cEq_bt, cEq_bt, cEq_bf], by omega⟩, fun e2 => ?_⟩⟩⟩
  obtain ⟨q, qd⟩ := isD_t.mp e
  have q2 := isC_t.mp e1
  have wb := isB_t.mp e2
  obtain ⟨p1, p2⟩ := R_cal h q.1 q.2
  obtain ⟨p3, p4⟩ := R_cal h q2.1 q2.2
  have db := dayC_bb h q (y := y) (m := m) (d := d)
  rw [p1, p3, e, e1, e2, cEq_bt, cEq_bt, cEq_bt, X6_dayO h e, bd_s, M_date h hc2 (by omega) hw, e1, isB_t.mpr (by omega : 0 ≤ w ∧ w ≤ 3)]
  simp only [T_some, T_none, T_ck, T_cLt, T_cEq, T_jLt, T_jEq, T_bind, T_bd2, T_wS, T_cO, T_nnS, T_cNullN, T_cNullS, T_bT1, T_bT2, T_ex, T_ite, T_dC, Sum.elim_inl, Sum.elim_inr, X2_day p2 qd, X2_date p4 (by omega : inR (dayC (aC A c) y m d)) wb.1 (by omega : w ≤ 3)]
  exact ⟨by omega, by omega, p2.1, p4.1, rfl, dpV_R (R_cO h q2.1 q2.2)⟩
theorem kindC_o (hy : ¬ (1 ≤ y ∧ y ≤ 9999)) : kindC C y = -1 := by
  unfold kindC
  rw [if_neg]
  intro ⟨q, _⟩
  exact hy (hasC_i q).1
theorem E_kind (h : RR x o A σ) (hc : inR c) (hy : inR y) : T (f_X1_kind σ x c y) (fun r => f_X6_kind σ o c y = some r ∧ inR r) := by
  have n := R_n h
  unfold f_X1_kind f_X6_kind
  rw [cO_t (R_x h), cO_t (R_o h), X6_isCal h hc]
  simp only [T_bind, T_some, T_cEq, bI_R, true_and, bI_0, Bool.not_eq_false, X1_isCalendar h hc, X1_isYear hy, bd_s, T_ck]
  refine ⟨fun e => ⟨by rw [e, cEq_bf], by omega⟩, fun e => ?_⟩
  have q := isC_t.mp e
  rw [e, cEq_bt, X6_kindO h q hy, bd_s]
  obtain ⟨p1, p2⟩ := R_cal h q.1 q.2
  refine ⟨fun e1 => ⟨by rw [kindC_o (isB_f.mp e1)], by omega⟩, fun e1 => ⟨by omega, ?_⟩⟩
  rw [p1]
  simp only [T_some, T_none, T_ck, T_cLt, T_cEq, T_jLt, T_jEq, T_bind, T_bd2, T_wS, T_cO, T_nnS, T_cNullN, T_cNullS, T_bT1, T_bT2, T_ex, T_ite, T_dC, Sum.elim_inl, Sum.elim_inr, X2_kind p2 hy]
  exact ⟨p2.1, by simp, kindC_R (R_cO h q.1 q.2) y⟩
theorem E_like (h : RR x o A σ) {i : Int} (hc : inR c) (hy : inR y) (hi : inR i) : T (f_X1_like σ x c y i) (fun r => f_X6_like σ o c y i = some r ∧ inR r) := by
  have n := R_n h
  unfold f_X1_like f_X6_like
  rw [cO_t (R_x h), cO_t (R_o h), X6_isCal h hc, X6_isB hy (by omega) (by omega)]
  simp only [T_bind, T_some, T_cEq, bI_R, true_and, bI_0, Bool.not_eq_false, X1_isCalendar h hc, X1_isYear hy, bd_s, T_ck, T_cLt]
  refine ⟨fun e => ⟨by rw [e, cEq_bf], by omega⟩, fun e => ⟨fun e1 => ⟨by rw [e, e1, cEq_bt, cEq_bf], by omega⟩, fun e1 => ⟨by omega, fun z => ⟨?_, by omega⟩, fun z => ?_⟩⟩⟩
  · rw [e, e1, cEq_bt, cEq_bt, cLt_t (by omega) (by omega) z]
  have q := isC_t.mp e
  have yb := isB_t.mp e1
  obtain ⟨p1, p2⟩ := R_cal h q.1 q.2
  have hC := R_cO h q.1 q.2
  refine ⟨by omega, ?_⟩
  rw [e, e1, cEq_bt, cEq_bt, cLt_f (by omega) (by omega) z, X6_kindO h q hy, p1, bd_s]
  simp only [T_nnS, T_cO, T_bind, T_some, X2_kind p2 hy]
  refine ⟨p2.1, ?_⟩
  have kr := kindC_R hC y
  refine T_lp2 (fun s => (0 ≤ s.1 ∧ s.1 ≤ s.2) ∧ (1 ≤ s.2 ∧ s.2 ≤ 10000)) (fun s => (10000 - s.2).toNat) ?_ ⟨by dsimp only; omega, by dsimp only; omega⟩
  intro ⟨n', k⟩ ⟨k1, k2⟩
  dsimp only at k1 k2
  have k3 := kindC_R hC k
  unfold f_X1_like_b45 f_X6_like_b41
  rw [X2_kind p2 (by omega), X6_kindO h q (by omega)]
  refine ⟨rfl, ?_⟩
  simp only [T_some, T_none, T_ck, T_cLt, T_cEq, T_jLt, T_jEq, T_bind, T_bd2, T_wS, T_cO, T_nnS, T_cNullN, T_cNullS, T_bT1, T_bT2, T_ex, T_ite, T_dC, Sum.elim_inl, Sum.elim_inr]
  refine ⟨by omega, fun z1 => by omega, fun z1 => ⟨by omega, fun z2 => by omega, fun z2 => ⟨by omega, fun z3 => ⟨by omega, fun z4 => by omega, fun z4 => ⟨⟨by omega, by omega⟩, by omega⟩⟩, fun z3 => ⟨⟨by omega, by omega⟩, by omega⟩⟩⟩⟩
theorem E_thirteenths (h : RR x o A σ) {f t w : Int} (hc : inR c) (hf : inR f) (ht : inR t) (hw : inR w) : T (f_X1_thirteenths σ x c f t w) (fun r => f_X6_thirteenths σ o c f t w = some r ∧ inR r) := by
  have n := R_n h
  unfold f_X1_thirteenths f_X6_thirteenths
  rw [cO_t (R_x h), cO_t (R_o h), X6_isCal h hc, X6_isB hf (by omega) (by omega), X6_isB ht hf (by omega), X6_isB hw (by omega) (by omega)]
  simp only [T_bind, T_some, T_cEq, bI_R, true_and, bI_0, Bool.not_eq_false, X1_isCalendar h hc, X1_isYear hf, bd_s, T_ck, X1_isB (by omega : inL t) (by omega : inL f) (by omega : inL 9999), X1_isB (by omega : inL w) (by omega : inL 0) (by omega : inL 6)]
  refine ⟨fun e => ⟨by rw [e, cEq_bf], by omega⟩, fun e => ⟨fun e1 => ⟨by rw [e, e1, cEq_bt, cEq_bf], by omega⟩, fun e1 => ⟨ht, hf, fun e2 => ⟨by rw [e, e1, e2, cEq_bt, cEq_bt, cEq_bf], by omega⟩, fun e2 => ⟨hw, fun e3 => ⟨by rw [e, e1, e2, e3, cEq_bt, cEq_bt, cEq_bt, cEq_bf], by omega⟩, fun e3 => ?_⟩⟩⟩⟩
  have q := isC_t.mp e
  have fb := isB_t.mp e1
  have tb := isB_t.mp e2
  have wb := isB_t.mp e3
  obtain ⟨p1, p2⟩ := R_cal h q.1 q.2
  rw [e, e1, e2, e3, cEq_bt, cEq_bt, cEq_bt, cEq_bt]
  have iD : ∀ y z w, isD A c y z w = hasC (aC A c) y z w := by intro y z w; unfold isD; rw [e]; rfl
  refine T_lp2 (fun s => (0 ≤ s.1 ∧ s.1 ≤ 12 * s.2) ∧ (1 ≤ s.2 ∧ s.2 ≤ t + 1)) (fun s => (t + 1 - s.2).toNat) ?_ ⟨by dsimp only; omega, by dsimp only; omega⟩
  intro ⟨n', k⟩ ⟨k1, k2⟩
  dsimp only at k1 k2
  unfold f_X1_thirteenths_b49 f_X6_thirteenths_b49
  have inner : k ≤ t → T (lp (fun s => f_X1_thirteenths_b58 σ x c t w k s.1 s.2) (n', 1)) (fun r => lp (fun s => f_X6_thirteenths_b58 σ o c t w k s.1 s.2) (n', 1) = some r ∧ ∃ n2, (0 ≤ n2 ∧ n2 ≤ 12 * (k + 1)) ∧ r = .inl (n2, k + 1)) := by
    intro hk
    refine T_lp2 (fun s => (1 ≤ s.2 ∧ s.2 ≤ 13) ∧ (0 ≤ s.1 ∧ s.1 ≤ 12 * k + (s.2 - 1))) (fun s => (13 - s.2).toNat) ?_ ⟨by dsimp only; omega, by dsimp only; omega⟩
    intro ⟨v, j⟩ ⟨j1, j2⟩
    dsimp only at j1 j2
    unfold f_X1_thirteenths_b58 f_X6_thirteenths_b58
    rw [cLt_flip (n := 12) (n' := 13) _ _ (by omega) (by omega) (by omega) (by omega), p1, X6_isDat h hc (by omega) (by omega) (by omega), iD]
    have hh := X2_has p2 (y := k) (m := j) (d := 13) (by omega) (by omega) (by omega)
    have db := dayC_bb h q (y := k) (m := j) (d := 13)
    cases z : hasC (aC A c) k j 13 with
    | false =>
      constructor
      · rw [ck_t (by omega)]
        simp only [nn, Option.bind_some, hh, z, cO_t p2.1, cEq_bf]
      · rw [z] at hh
        simp only [T_some, T_none, T_ck, T_cLt, T_cEq, T_jLt, T_jEq, T_bind, T_bd2, T_wS, T_cO, T_nnS, T_cNullN, T_cNullS, T_bT1, T_bT2, T_ex, T_ite, T_dC, Sum.elim_inl, Sum.elim_inr, hh]
        refine ⟨by omega, fun q1 => ⟨by omega, p2.1, by show inR 0 ∧ inR 0; omega, fun _ => ⟨⟨by omega, by omega⟩, by omega⟩, fun q => absurd rfl q⟩, fun q1 => ⟨v, by omega, rfl⟩⟩
    | true =>
      constructor
      · rw [ck_t (by omega), X6_dayO h (by rw [iD]; exact z), ck_t (by omega)]
        simp only [nn, Option.bind_some, hh, z, cO_t p2.1, cEq_bt, X2_week p2 z]
        rw [ck_t (by omega)]
      · rw [z] at hh
        simp only [T_some, T_none, T_ck, T_cLt, T_cEq, T_jLt, T_jEq, T_bind, T_bd2, T_wS, T_cO, T_nnS, T_cNullN, T_cNullS, T_bT1, T_bT2, T_ex, T_ite, T_dC, Sum.elim_inl, Sum.elim_inr, hh, X2_week p2 z]
        refine ⟨by omega, fun q1 => ⟨by omega, p2.1, by show inR 1 ∧ inR 0; omega, fun q => by have q : (1 : Int) = 0 := q; omega, fun _ => ⟨by omega, p2.1, ⟨tmod_R, hw⟩, fun _ => ⟨⟨by omega, by omega⟩, by omega⟩, fun _ => ⟨⟨by omega, by omega⟩, by omega⟩⟩⟩, fun q1 => ⟨v, by omega, rfl⟩⟩
  simp only [T_cLt, T_ex, T_some, Sum.elim_inr]
  by_cases hk : k ≤ t
  · obtain ⟨r, er, er2, n2, nb, en⟩ := inner hk
    rw [er, er2]
    refine ⟨rfl, by omega, fun z => by omega, fun z => ⟨r, rfl, ?_⟩⟩
    rw [en]
    exact ⟨⟨by dsimp only; omega, by dsimp only; omega⟩, by dsimp only; omega⟩
  · refine ⟨?_, by omega, fun z => by omega, fun z => by omega⟩
    rw [cLt_t (by omega) (by omega) (by omega), cLt_t (by omega) (by omega) (by omega)]
theorem E_mates (h : RR x o A σ) (hc : inR c) (hy : inR y) (hm : inR m) : T (f_X1_mates σ x c y m) (fun r => f_X6_mates σ o c y m = some r ∧ inR r) := by
  have n := R_n h
  unfold f_X1_mates f_X6_mates
  rw [cO_t (R_x h), cO_t (R_o h), X6_isDat h hc hy hm (by omega)]
  simp only [T_bind, T_some, T_cEq, bI_R, true_and, bI_0, Bool.not_eq_false, X1_isDate h hc hy hm (by omega : inR 1), bd_s]
  refine ⟨fun e => ⟨by rw [e, cEq_bf], by omega⟩, fun e => ?_⟩
  obtain ⟨q, qd⟩ := isD_t.mp e
  obtain ⟨p1, p2⟩ := R_cal h q.1 q.2
  have i3 := hasC_i qd
  rw [e, cEq_bt]
  have iD : ∀ y z w, isD A c y z w = hasC (aC A c) y z w := by intro y z w; unfold isD; rw [isC_t.mpr q]; rfl
  refine T_lp2 (fun s => inR s.1 ∧ (1 ≤ s.2 ∧ s.2 ≤ 13)) (fun s => (13 - s.2).toNat) ?_ ⟨by dsimp only; omega, by dsimp only; omega⟩
  intro ⟨v, j⟩ ⟨j1, j2⟩
  dsimp only at j1 j2
  have db := dayC_bb h q (y := y) (m := j) (d := 1)
  have db2 := dayC_bb h q (y := y) (m := m) (d := 1)
  have al := X1_areAlike p2 (y := y) (p := m) (q := j) hy hm (by omega)
  unfold f_X1_mates_b19 f_X6_mates_b19
  rw [cLt_flip (n := 12) (n' := 13) _ _ (by omega) (by omega) (by omega) (by omega), p1, X6_isDat h hc (by omega) (by omega) (by omega), iD]
  constructor
  · rw [ck_t (by omega)]
    simp only [nn, Option.bind_some, al]
    unfold alC
    rw [qd]
    cases z : hasC (aC A c) y j 1 with
    | false => simp only [Bool.true_and, Bool.false_and, cEq_bf]
    | true =>
      rw [X6_dayO h (by rw [iD]; exact z), X6_dayO h e]
      simp only [Bool.true_and, cEq_bt, Option.bind_some]
      rw [ck_t (by omega), ck_t (by omega)]
      by_cases w : Int.tmod (dayC (aC A c) y m 1) 7 = Int.tmod (dayC (aC A c) y j 1) 7
      · rw [cEq_t (x := Int.tmod _ 7) tmod_R tmod_R w.symm, decide_eq_true w, cEq_bt]
      · rw [cEq_f (x := Int.tmod _ 7) tmod_R tmod_R (fun e => w e.symm), decide_eq_false w, cEq_bf]
  · simp only [T_some, T_none, T_ck, T_cLt, T_cEq, T_jLt, T_jEq, T_bind, T_bd2, T_wS, T_cO, T_nnS, T_cNullN, T_cNullS, T_bT1, T_bT2, T_ex, T_ite, T_dC, Sum.elim_inl, Sum.elim_inr, al, bI_R, true_and, bI_0, Bool.not_eq_false]
    refine ⟨by omega, fun q1 => ⟨by omega, fun _ => ⟨⟨bOr_R _ _, by omega⟩, by omega⟩, fun _ => ⟨⟨bOr_R _ _, by omega⟩, by omega⟩⟩, fun q1 => j1⟩
end
