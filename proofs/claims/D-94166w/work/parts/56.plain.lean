/-! the first checks of all calls; ways and answers -/
set_option maxRecDepth 100000
theorem T_g {R : Type} (b : Bool) (X Y : Option R) (Q : R → Prop) : T (cEq (bI b) 0 X Y) Q ↔ (b = false → T X Q) ∧ (b = true → T Y Q) := by
  rw [T_cEq]
  cases b
  · exact ⟨fun h => ⟨fun _ => h.2.1 rfl, fun q => by cases q⟩, fun h => ⟨by show inR 0 ∧ inR 0; omega, fun _ => h.1 rfl, fun q => absurd rfl q⟩⟩
  · exact ⟨fun h => ⟨fun q => (by cases q), fun _ => h.2.2 (by show ¬ (1 : Int) = 0; omega)⟩, fun h => ⟨by show inR 1 ∧ inR 0; omega, fun q => (by have q : (1 : Int) = 0 := q; omega), fun _ => h.2 rfl⟩⟩
theorem bI_R (b : Bool) : (inR (bI b) ∧ inR 0) ↔ True := by
  have := bI_b b
  constructor
  · intro _; trivial
  · intro _; constructor <;> constructor <;> omega
def isC (A : AS) (c : Int) : Bool := decide (0 ≤ c ∧ c < (aV A 6 0))
def isH (A : AS) (g : Int) : Bool := decide (0 ≤ g ∧ g < (aV A 7 0))
def isD (A : AS) (c y m d : Int) : Bool := isC A c && hasC (aC A c) y m d
def isB (v a b : Int) : Bool := decide (a ≤ v ∧ v ≤ b)
theorem isC_t {A : AS} {c : Int} : isC A c = true ↔ 0 ≤ c ∧ c < (aV A 6 0) := by simp [isC]
theorem isH_t {A : AS} {g : Int} : isH A g = true ↔ 0 ≤ g ∧ g < (aV A 7 0) := by simp [isH]
theorem isD_t {A : AS} {c y m d : Int} : isD A c y m d = true ↔ (0 ≤ c ∧ c < (aV A 6 0)) ∧ hasC (aC A c) y m d = true := by unfold isD; rw [Bool.and_eq_true_iff, isC_t]
theorem isB_t {v a b : Int} : isB v a b = true ↔ a ≤ v ∧ v ≤ b := by simp [isB]
theorem isB_f {v a b : Int} : isB v a b = false ↔ ¬ (a ≤ v ∧ v ≤ b) := by simp [isB]
theorem b01_B (p : Prop) [Decidable p] : b01 p = bI (decide p) := by unfold b01 bI; simp
theorem hasC_i {C : Cal} {y m d : Int} (h : hasC C y m d = true) : (1 ≤ y ∧ y ≤ 9999) ∧ (1 ≤ m ∧ m ≤ 12) ∧ (1 ≤ d ∧ d ≤ 31) := by
  obtain ⟨k, hk⟩ := hasC_t h
  exact inD_t.mp (cE_some hk).1
section
variable {σ : St} {x o : Nat} {A : AS} {g c y m d v : Int}
theorem X1_isB {a b : Int} (hv : inL v) (ha : inL a) (hb : inL b) : f_X1_isIn σ v a b = some (bI (isB v a b)) := by rw [X1_isIn hv ha hb, b01_B]; rfl
theorem X6_isB {a b : Int} (hv : inR v) (ha : inR a) (hb : inR b) : f_X6_in σ v a b = some (bI (isB v a b)) := by rw [X6_in hv ha hb, b01_B]; rfl
theorem X1_isCalendar (h : RR x o A σ) (hc : inR c) : f_X1_isCalendar σ x c = some (bI (isC A c)) := by
  have n := R_n h
  unfold f_X1_isCalendar
  rw [cO_t (R_x h), R_v h (by omega)]
  refine T_eq.mp ?_
  simp only [T_some, T_none, T_ck, T_cLt, T_cEq, T_jLt, T_jEq, T_bind, T_bd2, T_wS, T_cO, T_nnS, T_cNullN, T_cNullS, T_bT1, T_bT2, T_ex, T_ite, T_dC, Sum.elim_inl, Sum.elim_inr]
  unfold bI isC
  refine ⟨by omega, fun q => ?_, fun q => ⟨by omega, fun q1 => ?_, fun q1 => ?_⟩⟩
  · rw [if_neg]; simp; omega
  · rw [if_pos]; simp; omega
  · rw [if_neg]; simp; omega
theorem X1_isHead (h : RR x o A σ) (hc : inR g) : f_X1_isHead σ x g = some (bI (isH A g)) := by
  have n := R_n h
  unfold f_X1_isHead
  rw [cO_t (R_x h), R_v h (by omega)]
  refine T_eq.mp ?_
  simp only [T_some, T_none, T_ck, T_cLt, T_cEq, T_jLt, T_jEq, T_bind, T_bd2, T_wS, T_cO, T_nnS, T_cNullN, T_cNullS, T_bT1, T_bT2, T_ex, T_ite, T_dC, Sum.elim_inl, Sum.elim_inr]
  unfold bI isH
  refine ⟨by omega, fun q => ?_, fun q => ⟨by omega, fun q1 => ?_, fun q1 => ?_⟩⟩
  · rw [if_neg]; simp; omega
  · rw [if_pos]; simp; omega
  · rw [if_neg]; simp; omega
theorem X1_isDate (h : RR x o A σ) (hc : inR c) (hy : inR y) (hm : inR m) (hd : inR d) : f_X1_isDate σ x c y m d = some (bI (isD A c y m d)) := by
  have n := R_n h
  unfold f_X1_isDate isD
  rw [cO_t (R_x h), X1_isCalendar h hc]
  refine T_eq.mp ?_
  simp only [T_bind, T_some, T_cEq, bI_R, true_and, bI_0, Bool.not_eq_false]
  refine ⟨fun e => by rw [e]; rfl, fun e => ?_⟩
  have q := isC_t.mp e
  obtain ⟨e1, e2⟩ := R_cal h q.1 q.2
  rw [e1, e]
  simp only [T_some, T_none, T_ck, T_cLt, T_cEq, T_jLt, T_jEq, T_bind, T_bd2, T_wS, T_cO, T_nnS, T_cNullN, T_cNullS, T_bT1, T_bT2, T_ex, T_ite, T_dC, Sum.elim_inl, Sum.elim_inr, X2_has e2 hy hm hd, bI_R, true_and, bI_0, Bool.not_eq_false]
  refine ⟨by omega, e2.1, fun z => by rw [z]; rfl, fun z => by rw [z]; rfl⟩
theorem X1_isYear (hy : inR y) : f_X1_isYear σ y = some (bI (isB y 1 9999)) := by
  unfold f_X1_isYear
  rw [X1_isB (by omega) (by omega) (by omega)]
  refine T_eq.mp ?_
  simp only [T_some, T_none, T_ck, T_cLt, T_cEq, T_jLt, T_jEq, T_bind, T_bd2, T_wS, T_cO, T_nnS, T_cNullN, T_cNullS, T_bT1, T_bT2, T_ex, T_ite, T_dC, Sum.elim_inl, Sum.elim_inr]
  exact ⟨hy, bI_b _, trivial⟩
theorem X1_isSlack (hy : inR y) : f_X1_isSlack σ y = some (bI (isB y 0 999)) := by
  unfold f_X1_isSlack
  rw [X1_isB (by omega) (by omega) (by omega)]
  refine T_eq.mp ?_
  simp only [T_some, T_none, T_ck, T_cLt, T_cEq, T_jLt, T_jEq, T_bind, T_bd2, T_wS, T_cO, T_nnS, T_cNullN, T_cNullS, T_bT1, T_bT2, T_ex, T_ite, T_dC, Sum.elim_inl, Sum.elim_inr]
  exact ⟨hy, bI_b _, trivial⟩
theorem X6_isSlack (hy : inR y) : f_X6_isSlack σ o y = some (bI (isB y 0 999)) := by
  unfold f_X6_isSlack
  rw [X6_isB (by omega) (by omega) (by omega)]
  refine T_eq.mp ?_
  simp only [T_some, T_none, T_ck, T_cLt, T_cEq, T_jLt, T_jEq, T_bind, T_bd2, T_wS, T_cO, T_nnS, T_cNullN, T_cNullS, T_bT1, T_bT2, T_ex, T_ite, T_dC, Sum.elim_inl, Sum.elim_inr]
  exact ⟨bI_b _, trivial⟩
theorem X6_isCal (h : RR x o A σ) (hc : inR c) : f_X6_isCalendar σ o c = some (bI (isC A c)) := by
  have n := R_n h
  rw [X6_isCalendar (R_o h) h.2.2.2.1.2.2.1 n.1.1 n.1.2 hc, b01_B]; rfl
theorem X6_isHead (h : RR x o A σ) (hc : inR g) : f_X6_isHead σ o g = some (bI (isH A g)) := by
  have n := R_n h
  unfold f_X6_isHead
  rw [cO_t (R_o h), h.2.2.2.1.2.2.2.1, X6_isB hc (by omega) (by omega)]
  refine T_eq.mp ?_
  simp only [T_some, T_none, T_ck, T_cLt, T_cEq, T_jLt, T_jEq, T_bind, T_bd2, T_wS, T_cO, T_nnS, T_cNullN, T_cNullS, T_bT1, T_bT2, T_ex, T_ite, T_dC, Sum.elim_inl, Sum.elim_inr]
  refine ⟨bI_b _, ?_⟩
  unfold isB isH
  have e : (0 ≤ g ∧ g ≤ (aV A 7 0) - 1) ↔ (0 ≤ g ∧ g < (aV A 7 0)) := by omega
  simp only [e]
theorem X6_isDat (h : RR x o A σ) (hc : inR c) (hy : inR y) (hm : inR m) (hd : inR d) : f_X6_isDate σ o c y m d = some (bI (isD A c y m d)) := by
  have n := R_n h
  have hm' := h.2.2.2
  unfold isD
  cases e : isC A c with
  | true =>
    have q := isC_t.mp e
    rw [X6_isDate (R_o h) hm'.1.2.2.1 q n.1.2 (hm'.2.2.1 c q.1 q.2) hy hm hd]; rfl
  | false =>
    unfold f_X6_isDate f_X6_stretchOf
    rw [cO_t (R_o h), cO_t (R_o h), X6_isCal h hc]
    refine T_eq.mp ?_
    simp only [T_bind, T_some, T_cEq, bI_R, true_and, bI_0, Bool.not_eq_false]
    refine ⟨fun _ => ⟨by omega, fun _ => rfl, fun q => absurd trivial q⟩, fun q => by rw [e] at q; cases q⟩
theorem X6_dayO (h : RR x o A σ) (hd : isD A c y m d = true) : f_X6_dayOf σ o c y m d = some (dayC (aC A c) y m d) := by
  have n := R_n h
  obtain ⟨q, hh⟩ := isD_t.mp hd
  have hm' := h.2.2.2
  exact X6_dayOf (R_o h) hm'.1.2.2.1 q n.1.2 (hm'.2.2.1 c q.1 q.2) hh
theorem X6_kindO (h : RR x o A σ) (hc : 0 ≤ c ∧ c < (aV A 6 0)) (hy : inR y) : f_X6_kindOf σ o c y = some (kindC (aC A c) y) := by
  have n := R_n h
  have hm' := h.2.2.2
  exact X6_kindOf (R_o h) hm'.1.2.2.1 hc n.1.2 (hm'.2.2.1 c hc.1 hc.2) hy
theorem X6_dateO (h : RR x o A σ) (hc : 0 ≤ c ∧ c < (aV A 6 0)) {k : Int} (hk : inR k) : f_X6_dateOf σ o c k = some (dateC (aC A c) k) := X6_dateOf (R_o h) (h.2.2.2.2.2.1 c hc.1 hc.2) hk
theorem dayC_bb (h : RR x o A σ) (hc : 0 ≤ c ∧ c < (aV A 6 0)) : 0 ≤ dayC (aC A c) y m d ∧ dayC (aC A c) y m d ≤ 19000000 := dayC_b (R_cO h hc.1 hc.2) y m d
/-- whether there is an answer -/
def isA (A : AS) (g c y m d : Int) : Bool := isH A g && (isD A c y m d && goC (aH A g) (aC A c) y m)
theorem isA_t : isA A g c y m d = true ↔ isH A g = true ∧ isD A c y m d = true ∧ goC (aH A g) (aC A c) y m = true := by unfold isA; rw [Bool.and_eq_true_iff, Bool.and_eq_true_iff]
theorem X1_isAnswered (h : RR x o A σ) (hg : inR g) (hc : inR c) (hy : inR y) (hm : inR m) (hd : inR d) : T (f_X1_isAnswered σ x g c y m d) (fun r => r.1 = bI (isA A g c y m d) ∧ RR x o A r.2) := by
  have n := R_n h
  unfold f_X1_isAnswered isA
  rw [cO_t (R_x h)]
  simp only [T_bind, T_some, T_cEq, bI_R, true_and, bI_0, Bool.not_eq_false, X1_isHead h hg, X1_isDate h hc hy hm hd]
  refine ⟨fun e => ⟨by rw [e]; rfl, h⟩, fun e => ⟨fun e1 => ⟨by rw [e, e1]; rfl, h⟩, fun e1 => ?_⟩⟩
  have q := isH_t.mp e
  obtain ⟨q1, q2⟩ := isD_t.mp e1
  have i := hasC_i q2
  rw [(R_head h q.1 q.2).1, (R_cal h q1.1 q1.2).1, e, e1]
  simp only [T_nnS, T_ck, T_bd2]
  refine ⟨by omega, by omega, T_mono (X1_hasWay h q.1 q.2 q1.1 q1.2 i.1.1 i.1.2 i.2.1.1 i.2.1.2) (fun r ⟨r1, r2⟩ => ?_)⟩
  rw [r1]
  simp only [T_cEq, bI_R, true_and, bI_0, Bool.not_eq_false, T_some]
  exact ⟨fun z => ⟨by rw [z]; rfl, r2⟩, fun z => ⟨by rw [z]; rfl, r2⟩⟩
/-- way -/
def wayV (A : AS) (g c y m d w i : Int) : Int := if isA A g c y m d && isB w 0 1 then (if i = -1 then (if w = 0 then hL (aH A g) y % 20000 else hM (aH A g) m % 20000) else if isB i 0 (if w = 0 then hL (aH A g) y % 20000 else hM (aH A g) m % 20000) then (if w = 0 then rw' (nxY (aH A g)) y i.toNat else rw' (nxM (aH A g)) m i.toNat) else -1) else -1
theorem O_wayX {w i : Int} (h : RR x o A σ) (hg : inR g) (hc : inR c) (hy : inR y) (hm : inR m) (hd : inR d) (hw : inR w) (hi : inR i) : T (f_X1_way σ x g c y m d w i) (fun r => r.1 = wayV A g c y m d w i ∧ RR x o A r.2) := by
  have n := R_n h
  unfold f_X1_way
  rw [cO_t (R_x h), T_bd2]
  refine T_mono (X1_isAnswered h hg hc hy hm hd) (fun r ⟨r1, r2⟩ => ?_)
  obtain ⟨rv, σ1⟩ := r
  dsimp only at r1 r2 ⊢
  rw [r1]
  unfold wayV
  simp only [T_cEq, bI_R, true_and, bI_0, Bool.not_eq_false, T_some, T_ck, T_bind, X1_isB (by omega : inL w) (by omega : inL 0) (by omega : inL 1)]
  refine ⟨fun e => ⟨by rw [e]; rfl, r2⟩, fun e => ⟨hw, fun e1 => ⟨by rw [e1]; simp, r2⟩, fun e1 => ?_⟩⟩
  obtain ⟨q, q1, q2⟩ := isA_t.mp e
  have w1 := isB_t.mp e1
  have hr := rch_t.mp (goC_t q2).1
  have qh := isH_t.mp q
  have i3 := hasC_i (isD_t.mp q1).2
  obtain ⟨a1, a2, a3⟩ := R_head r2 qh.1 qh.2
  have hO := R_hO r2 qh.1 qh.2
  have vy := (hO.2.2.1 y i3.1.1 i3.1.2).1
  have vm := (hO.2.2.2.1 m i3.2.1.1 i3.2.1.2).1
  have ly := v_L hO i3.1.1 i3.1.2
  have lm := v_M hO i3.2.1.1 i3.2.1.2
  have st1 : f_X5_steps σ1 (aHa A g) y = some (hL (aH A g) y % 20000) := by
    unfold f_X5_steps
    rw [cO_t a2.1, a2.2.2.2.2.2.1 y i3.1.1 i3.1.2, ck_t (by omega), ck_t (by omega), v_m vy]
  have st2 : f_X5_monthSteps σ1 (aHa A g) m = some (hM (aH A g) m % 20000) := by
    unfold f_X5_monthSteps
    rw [cO_t a2.1, a2.2.2.2.2.2.2.1 m i3.2.1.1 i3.2.1.2, ck_t (by omega), ck_t (by omega), v_m vm]
  rw [a1, e, e1]
  unfold vOK at vy vm
  have fin : ∀ many, many = (if w = 0 then hL (aH A g) y % 20000 else hM (aH A g) m % 20000) → T (f_X1_way_j56 y m w i (aHa A g) many σ1) (fun r => r.1 = (if i = -1 then (if w = 0 then hL (aH A g) y % 20000 else hM (aH A g) m % 20000) else if isB i 0 (if w = 0 then hL (aH A g) y % 20000 else hM (aH A g) m % 20000) then (if w = 0 then rw' (nxY (aH A g)) y i.toNat else rw' (nxM (aH A g)) m i.toNat) else -1) ∧ RR x o A r.2) := by
    intro many em
    have mb : 0 ≤ many ∧ many ≤ 9998 := by rw [em]; split <;> omega
    rw [← em]
    unfold f_X1_way_j56 f_X1_way_j93
    simp only [T_some, T_ck, T_bind, T_cEq, bI_R, true_and, bI_0, Bool.not_eq_false, X1_isB (by omega : inL i) (by omega : inL 0) (by omega : inL many)]
    refine ⟨by omega, fun z => ⟨by rw [if_pos z], r2⟩, fun z => ⟨hi, by omega, fun z1 => ⟨by rw [if_neg z, z1]; rfl, r2⟩, fun z1 => ?_⟩⟩
    have ib := isB_t.mp z1
    rw [if_neg z, z1]
    refine ⟨by omega, fun w0 => ?_, fun w0 => ?_⟩
    · rw [if_pos w0] at em
      refine T_lp (fun s => (0 ≤ s.2 ∧ s.2 ≤ i) ∧ s.1 = rw' (nxY (aH A g)) y s.2.toNat) (fun s => (i - s.2).toNat) ?_ ⟨by dsimp only; omega, rfl⟩
      intro ⟨at', k⟩ ⟨k1, e2⟩
      dsimp only at k1 e2
      obtain ⟨b1, _⟩ := rwY hO i3.1.1 i3.1.2 hr.1 k.toNat (by omega)
      unfold f_X1_way_b98
      rw [← e2] at b1
      simp only [T_some, T_none, T_ck, T_cLt, T_cEq, T_jLt, T_jEq, T_bind, T_bd2, T_wS, T_cO, T_nnS, T_cNullN, T_cNullS, T_bT1, T_bT2, T_ex, T_ite, T_dC, Sum.elim_inl, Sum.elim_inr, X5_nextYear a2 b1.1 b1.2]
      refine ⟨by omega, fun z2 => ⟨by omega, fun _ => ⟨a2.1, ⟨by omega, ?_⟩, by omega⟩, fun q => absurd w0 q⟩, fun z2 => ⟨?_, r2⟩⟩
      · rw [show (k + 1).toNat = k.toNat + 1 by omega, e2]; rfl
      · have : k = i := by omega
        rw [e2, this]
        simp [w0]
    · rw [if_neg w0] at em
      refine T_lp (fun s => (0 ≤ s.2 ∧ s.2 ≤ i) ∧ s.1 = rw' (nxM (aH A g)) m s.2.toNat) (fun s => (i - s.2).toNat) ?_ ⟨by dsimp only; omega, rfl⟩
      intro ⟨at', k⟩ ⟨k1, e2⟩
      dsimp only at k1 e2
      obtain ⟨b1, _⟩ := rwM hO i3.2.1.1 i3.2.1.2 hr.2 k.toNat (by omega)
      unfold f_X1_way_b98
      rw [← e2] at b1
      simp only [T_some, T_none, T_ck, T_cLt, T_cEq, T_jLt, T_jEq, T_bind, T_bd2, T_wS, T_cO, T_nnS, T_cNullN, T_cNullS, T_bT1, T_bT2, T_ex, T_ite, T_dC, Sum.elim_inl, Sum.elim_inr, X5_nextMonth a2 b1.1 b1.2]
      refine ⟨by omega, fun z2 => ⟨by omega, fun q => absurd q w0, fun _ => ⟨a2.1, ⟨by omega, ?_⟩, by omega⟩⟩, fun z2 => ⟨?_, r2⟩⟩
      · rw [show (k + 1).toNat = k.toNat + 1 by omega, e2]; rfl
      · have : k = i := by omega
        rw [e2, this]
        simp [w0]
  simp only [T_some, T_none, T_ck, T_cLt, T_cEq, T_jLt, T_jEq, T_bind, T_bd2, T_wS, T_cO, T_nnS, T_cNullN, T_cNullS, T_bT1, T_bT2, T_ex, T_ite, T_dC, Sum.elim_inl, Sum.elim_inr, st1, st2]
  refine ⟨R_x r2, by omega, by omega, fun w0 => ⟨a2.1, ?_⟩, fun w0 => ⟨a2.1, ?_⟩⟩
  · exact fin _ (by rw [if_pos w0])
  · exact fin _ (by rw [if_neg w0])
theorem O_wayM {w i : Int} (h : RR x o A σ) (hg : inR g) (hc : inR c) (hy : inR y) (hm : inR m) (hd : inR d) (hw : inR w) (hi : inR i) : T (f_X6_way σ o g c y m d w i) (fun r => r.1 = wayV A g c y m d w i ∧ RR x o A r.2) := by
  have n := R_n h
  have gow : ∀ a k i, goW o a k i → scW o a k i := fun a k i q => ⟨q.1, by have := q.2; omega⟩
  unfold f_X6_way wayV isA
  rw [cO_t (R_o h)]
  simp only [T_cEq, bI_R, true_and, bI_0, Bool.not_eq_false, T_some, T_bind, X6_isHead h hg, X6_isDat h hc hy hm hd, X6_isB hw (by omega : inR 0) (by omega : inR 1), T_bd2]
  refine ⟨fun e => ⟨by rw [e]; rfl, h⟩, fun e => ⟨fun e1 => ⟨by rw [e, e1]; rfl, h⟩, fun e1 => ⟨fun e2 => ⟨by rw [e2]; simp, h⟩, fun e2 => ?_⟩⟩⟩
  have q := isH_t.mp e
  obtain ⟨q1, q2⟩ := isD_t.mp e1
  have i3 := hasC_i q2
  have hm' := h.2.2.2
  have hO := R_hO h q.1 q.2
  have vy := (hO.2.2.1 y i3.1.1 i3.1.2).1
  have vm := (hO.2.2.2.1 m i3.2.1.1 i3.2.1.2).1
  have m11 := (hO.2.2.2.1 m i3.2.1.1 i3.2.1.2).2.1
  unfold vOK at vy vm
  have w1 := isB_t.mp e2
  refine T_mono (X6_goes (R_o h) hm'.1.2.2.1 q1 n.1.2 (hm'.2.2.1 c q1.1 q1.2) (by omega) (hm'.2.2.2.1 g q.1 q.2).1 i3.1.1 i3.1.2 i3.2.1.1 i3.2.1.2) (fun r ⟨r1, f1, rows⟩ => ?_)
  have h1 := RR_sc h (Fr_m f1 gow)
  rw [r1, e, e1, e2]
  simp only [T_cEq, bI_R, true_and, bI_0, Bool.not_eq_false, T_some]
  refine ⟨fun z => ⟨by rw [z]; rfl, h1⟩, fun z => ?_⟩
  have hr := goC_t z
  have hr2 := rch_t.mp hr.1
  obtain ⟨⟨e38, r36⟩, e39, r37⟩ := rows hr.1
  rw [z]
  unfold f_X6_way_j61
  simp only [T_cO, T_some, T_bind, T_cEq, bI_R, true_and, bI_0, Bool.not_eq_false, e38, e39, X6_isB hi (by omega : inR 0) (by omega : inR (hL (aH A g) y % 20000 + 1 - 1)), X6_isB hi (by omega : inR 0) (by omega : inR (hM (aH A g) m % 20000 + 1 - 1)), T_ck]
  simp only [show ∀ z : Int, z + 1 - 1 = z from fun z => by omega]
  have m11 := m11 hr2.2
  refine ⟨by omega, fun w0 => ⟨R_o h1, by omega, fun z1 => ⟨?_, h1⟩, fun z1 => ⟨fun z2 => ⟨?_, h1⟩, fun z2 => ⟨by omega, fun _ => ⟨R_o h1, ?_⟩, fun q => absurd w0 q⟩⟩⟩, fun w0 => ⟨R_o h1, by omega, fun z1 => ⟨?_, h1⟩, fun z1 => ⟨fun z2 => ⟨?_, h1⟩, fun z2 => ⟨by omega, fun q => absurd q w0, fun _ => ⟨R_o h1, ?_⟩⟩⟩⟩⟩
  · simp [z1, w0]
  · simp [z1, w0, z2]
  · have ib := isB_t.mp z2
    refine ⟨by omega, ?_, h1⟩
    have := r36 i.toNat (by omega)
    rw [show ((i.toNat : Nat) : Int) = i by omega] at this
    simp [z1, w0, z2, this]
  · simp [z1, w0]
  · simp [z1, w0, z2]
  · have ib := isB_t.mp z2
    refine ⟨by omega, ?_, h1⟩
    have := r37 i.toNat (by omega)
    rw [show ((i.toNat : Nat) : Int) = i by omega] at this
    simp [z1, w0, z2, this]
end
