/-! the model's calendars -/
set_option maxRecDepth 100000
def EraM (σ : St) (o : Nat) (s : Int) (E : EraT) : Prop := LepM σ o s E.1 ∧ (∃ y m d, vd E.1 y m d ∧ gI σ o 11 s = cdO y m d ∧ od E.1 y m d = E.2.2.1) ∧ (∃ y m d, vd E.1 y m d ∧ gI σ o 10 s = cdO y m d ∧ od E.1 y m d = E.2.2.2) ∧ gI σ o 12 s = E.2.1
/-- the calendar in a place c below 7 -/
def CalM (σ : St) (o : Nat) (c : Int) (C : Cal) : Prop := (0 ≤ c ∧ c < 7) ∧ gI σ o 6 c = C.1 ∧ (∀ k : Int, 0 ≤ k → k < C.1 → EraM σ o (4 * c + k) (C.2 k)) ∧ calOK C
section
variable {σ : St} {o : Nat} {c n : Int} {C : Cal} {y m d : Int}
theorem X6_isCalendar (h : oc σ o 5) (hn : gI σ o 14 0 = n) (n0 : 0 ≤ n) (n6 : n ≤ 6) (hc : inR c) : f_X6_isCalendar σ o c = some (b01 (0 ≤ c ∧ c < n)) := by
  unfold f_X6_isCalendar
  rw [cO_t h, hn, X6_in hc (by omega) (by omega)]
  refine T_eq.mp ?_
  simp only [T_some, T_none, T_ck, T_cLt, T_cEq, T_jLt, T_jEq, T_bind, T_bd2, T_wS, T_cO, T_nnS, T_cNullN, T_cNullS, T_bT1, T_bT2, T_ex, T_ite, T_dC, Sum.elim_inl, Sum.elim_inr]
  refine ⟨b01_b _, ?_⟩
  by_cases q : 0 ≤ c ∧ c < n
  · rw [b01_t q, b01_t (by omega)]
  · rw [b01_f q, b01_f (by omega)]
theorem cdO_b (h : (1 ≤ y ∧ y ≤ 10000) ∧ (1 ≤ m ∧ m ≤ 12) ∧ (1 ≤ d ∧ d ≤ 31)) : 10101 ≤ cdO y m d ∧ cdO y m d ≤ 100001231 := by unfold cdO; omega
theorem X6_stretchOf (ho : oc σ o 5) (hn : gI σ o 14 0 = n) (hc : 0 ≤ c ∧ c < n) (n6 : n ≤ 6) (h : CalM σ o c C) (hy : inR y) (hm : inR m) (hd : inR d) : f_X6_stretchOf σ o c y m d = some (match cE C y m d with
    | none => -1
    | some k => 4 * c + k) := by
  obtain ⟨h7, hs, hk, hC⟩ := h
  have n4 := hC.1
  unfold f_X6_stretchOf
  rw [cO_t ho]
  refine T_eq.mp ?_
  simp only [T_some, T_none, T_ck, T_cLt, T_cEq, T_jLt, T_jEq, T_bind, T_bd2, T_wS, T_cO, T_nnS, T_cNullN, T_cNullS, T_bT1, T_bT2, T_ex, T_ite, T_dC, Sum.elim_inl, Sum.elim_inr, X6_isCalendar ho hn (by omega) n6 (by omega : inR c), X6_in hy (by omega : inR 1) (by omega : inR 9999), X6_in hm (by omega : inR 1) (by omega : inR 12), X6_in hd (by omega : inR 1) (by omega : inR 31), b01_t hc]
  have b1 := b01_b (1 ≤ y ∧ y ≤ 9999)
  have b2 := b01_b (1 ≤ m ∧ m ≤ 12)
  have b3 := b01_b (1 ≤ d ∧ d ≤ 31)
  have no : inD y m d = false → cE C y m d = none := fun q => by unfold cE; rw [q]; rfl
  refine ⟨by omega, fun q => by omega, fun _ => ⟨by omega, fun q => ?_, fun q => ⟨by omega, fun q1 => ?_, fun q1 => ⟨by omega, fun q2 => ?_, fun q2 => ?_⟩⟩⟩⟩
  · rw [b01_0] at q; rw [no (by simp [inD]; omega)]
  · rw [b01_0] at q1; rw [no (by simp [inD]; omega)]
  · rw [b01_0] at q2; rw [no (by simp [inD]; omega)]
  · rw [b01_0, Decidable.not_not] at q q1 q2
    have hi : inD y m d = true := by rw [inD_t]; exact ⟨q, q1, q2⟩
    have e0 : cE C y m d = ffB (fun k => eH (C.2 k) y m d) ((C.1 : Int) - 0).toNat 0 := by
      unfold cE; rw [if_pos hi]; congr 1
    rw [e0]
    refine T_lp (fun s : Int => (4 * c ≤ s ∧ s ≤ 4 * c + C.1) ∧ ffB (fun k => eH (C.2 k) y m d) ((C.1 : Int) - 0).toNat 0 = ffB (fun k => eH (C.2 k) y m d) ((C.1 : Int) - (s - 4 * c)).toNat (s - 4 * c)) (fun s : Int => (4 * c + (C.1 : Int) - s).toNat) ?_ ⟨by omega, by rw [show 4 * c - 4 * c = 0 by omega]⟩
    intro s ⟨k1, k2⟩
    unfold f_X6_stretchOf_b47
    rw [k2, hs]
    simp only [T_cLt, T_ck]
    refine ⟨by omega, by omega, fun c1 => ?_, fun c1 => ?_⟩
    · have es : 4 * c + (s - 4 * c) = s := by omega
      have hE := hk (s - 4 * c) (by omega) (by omega)
      have hO := hC.2.1 (s - 4 * c) (by omega) (by omega)
      rw [es] at hE
      obtain ⟨hL, ⟨y1, m1, d1, v1, g1, o1⟩, ⟨y2, m2, d2, v2, g2, o2⟩, hd0⟩ := hE
      have lb1 := len_b hO.1 y1 m1
      have lb2 := len_b hO.1 y2 m2
      have lb := len_b hO.1 y m
      have cb1 := cdO_b (d := d1) ⟨v1.1, v1.2.1, by have := v1.2.2; omega⟩
      have cb2 := cdO_b (d := d2) ⟨v2.1, v2.2.1, by have := v2.2.2; omega⟩
      have cb := cdO_b (y := y) (m := m) (d := d) ⟨by omega, by omega, by omega⟩
      rw [ffB_s _ (by omega : s - 4 * c < C.1)]
      have nx : s - 4 * c + 1 = s + 1 - 4 * c := by omega
      have key : d ≤ len (C.2 (s - 4 * c)).1 y m → (eH (C.2 (s - 4 * c)) y m d = true ↔ cdO y1 m1 d1 ≤ cdO y m d ∧ cdO y m d ≤ cdO y2 m2 d2) := by
        intro z
        have v : vd (C.2 (s - 4 * c)).1 y m d := ⟨by omega, by omega, by omega⟩
        have a1 := od_le hO.1 v1 v
        have a2 := od_le hO.1 v v2
        rw [eH_t, ← o1, ← o2, a1, a2]
        simp [z]
      have nokey : ¬ d ≤ len (C.2 (s - 4 * c)).1 y m → eH (C.2 (s - 4 * c)) y m d = false := by
        intro z
        cases e : eH (C.2 (s - 4 * c)) y m d with
        | false => rfl
        | true => rw [eH_t] at e; omega
      have skip : eH (C.2 (s - 4 * c)) y m d = false → ((4 * c ≤ s + 1 ∧ s + 1 ≤ 4 * c + C.1) ∧ (if eH (C.2 (s - 4 * c)) y m d = true then some (s - 4 * c) else ffB (fun k => eH (C.2 k) y m d) ((C.1 : Int) - (s - 4 * c + 1)).toNat (s - 4 * c + 1)) = ffB (fun k => eH (C.2 k) y m d) ((C.1 : Int) - (s + 1 - 4 * c)).toNat (s + 1 - 4 * c)) ∧ (4 * c + (C.1 : Int) - (s + 1)).toNat < (4 * c + (C.1 : Int) - s).toNat := by
        intro z
        rw [z, nx]
        exact ⟨⟨by omega, by simp⟩, by omega⟩
      have fls : ∀ b : Bool, ¬ b = true → b = false := by intro b; cases b <;> simp
      simp only [T_some, T_none, T_ck, T_cLt, T_cEq, T_jLt, T_jEq, T_bind, T_bd2, T_wS, T_cO, T_nnS, T_cNullN, T_cNullS, T_bT1, T_bT2, T_ex, T_ite, T_dC, Sum.elim_inl, Sum.elim_inr, X6_code, g1, g2, X6_daysOf hL.1 (by omega : inR y) (by omega : inR m)]
      refine ⟨by omega, by omega, fun z => ?_, fun z => ⟨by omega, by omega, fun z1 => ?_, fun z1 => ⟨by omega, fun z2 => ?_, fun z2 => ?_⟩⟩⟩
      · refine skip ?_
        by_cases w : d ≤ len (C.2 (s - 4 * c)).1 y m
        · exact fls _ (fun t => by have := (key w).mp t; omega)
        · exact nokey w
      · refine skip ?_
        by_cases w : d ≤ len (C.2 (s - 4 * c)).1 y m
        · exact fls _ (fun t => by have := (key w).mp t; omega)
        · exact nokey w
      · exact skip (nokey (by omega))
      · rw [if_pos ((key (by omega)).mpr (by omega))]
        show s = 4 * c + (s - 4 * c)
        omega
    · simp only [T_some, T_none, T_ck, T_cLt, T_cEq, T_jLt, T_jEq, T_bind, T_bd2, T_wS, T_cO, T_nnS, T_cNullN, T_cNullS, T_bT1, T_bT2, T_ex, T_ite, T_dC, Sum.elim_inl, Sum.elim_inr]
      have : ((C.1 : Int) - (s - 4 * c)).toNat = 0 := by omega
      rw [this]; rfl
theorem X6_isDate (ho : oc σ o 5) (hn : gI σ o 14 0 = n) (hc : 0 ≤ c ∧ c < n) (n6 : n ≤ 6) (h : CalM σ o c C) (hy : inR y) (hm : inR m) (hd : inR d) : f_X6_isDate σ o c y m d = some (bI (hasC C y m d)) := by
  unfold f_X6_isDate
  rw [cO_t ho, X6_stretchOf ho hn hc n6 h hy hm hd]
  refine T_eq.mp ?_
  simp only [T_some, T_none, T_ck, T_cLt, T_cEq, T_jLt, T_jEq, T_bind, T_bd2, T_wS, T_cO, T_nnS, T_cNullN, T_cNullS, T_bT1, T_bT2, T_ex, T_ite, T_dC, Sum.elim_inl, Sum.elim_inr]
  unfold hasC
  cases e : cE C y m d with
  | none => exact ⟨by dsimp only; omega, fun _ => rfl, fun q => absurd rfl q⟩
  | some k =>
    have := cE_some e
    have := h.2.2.2.1
    exact ⟨by show inR (4 * c + k) ∧ inR (-1); omega, fun q => by have q : 4 * c + k = -1 := q; omega, fun q => rfl⟩
theorem X6_dayOf (ho : oc σ o 5) (hn : gI σ o 14 0 = n) (hc : 0 ≤ c ∧ c < n) (n6 : n ≤ 6) (h : CalM σ o c C) (hh : hasC C y m d = true) : f_X6_dayOf σ o c y m d = some (dayC C y m d) := by
  obtain ⟨k, hk⟩ := hasC_t hh
  obtain ⟨c1, c2, c3, c4⟩ := cE_some hk
  have ci := inD_t.mp c1
  have h4 := h.2.2.2.1
  have hO := h.2.2.2.2.1 k c2.1 c2.2
  obtain ⟨hL, ⟨y1, m1, d1, v1, g1, o1⟩, _, hd0⟩ := h.2.2.1 k c2.1 c2.2
  unfold f_X6_dayOf
  rw [cO_t ho, X6_stretchOf ho hn hc n6 h (by omega) (by omega) (by omega), hk]
  refine T_eq.mp ?_
  simp only [T_some, T_none, T_ck, T_cLt, T_cEq, T_jLt, T_jEq, T_bind, T_bd2, T_wS, T_cO, T_nnS, T_cNullN, T_cNullS, T_bT1, T_bT2, T_ex, T_ite, T_dC, Sum.elim_inl, Sum.elim_inr, X6_code, X6_ordinal hL (vd_of c1 c3), g1, X6_ordinal hL v1, hd0]
  refine ⟨by omega, by omega, ?_⟩
  rw [dayC_of hk, o1]; rfl
theorem X6_dateOf (ho : oc σ o 5) (h : CalM σ o c C) {x : Int} (hx : inR x) : f_X6_dateOf σ o c x = some (dateC C x) := by
  obtain ⟨h7, hs, hk, hC⟩ := h
  have n4 := hC.1
  unfold f_X6_dateOf
  rw [cO_t ho]
  have e0 : dateC C x = (match ffB (fun k => eD (C.2 k) x) ((C.1 : Int) - 0).toNat 0 with
    | some k => dtC (C.2 k).1 (x - (C.2 k).2.1 + (C.2 k).2.2.1)
    | none => -1) := by
    unfold dateC cA; rw [show ((C.1 : Int) - 0).toNat = C.1 by omega]; rfl
  rw [e0]
  refine T_eq.mp (T_lp (fun s : Int => (4 * c ≤ s ∧ s ≤ 4 * c + C.1) ∧ ffB (fun k => eD (C.2 k) x) ((C.1 : Int) - 0).toNat 0 = ffB (fun k => eD (C.2 k) x) ((C.1 : Int) - (s - 4 * c)).toNat (s - 4 * c)) (fun s : Int => (4 * c + (C.1 : Int) - s).toNat) ?_ ⟨by omega, by rw [show 4 * c - 4 * c = 0 by omega]⟩)
  intro s ⟨k1, k2⟩
  unfold f_X6_dateOf_b4
  rw [k2, hs]
  simp only [T_cLt, T_ck]
  refine ⟨by omega, by omega, fun c1 => ?_, fun c1 => ?_⟩
  · have es : 4 * c + (s - 4 * c) = s := by omega
    have hE := hk (s - 4 * c) (by omega) (by omega)
    have hO := hC.2.1 (s - 4 * c) (by omega) (by omega)
    rw [es] at hE
    obtain ⟨hL, ⟨y1, m1, d1, v1, g1, o1⟩, ⟨y2, m2, d2, v2, g2, o2⟩, hd0⟩ := hE
    have lb1 := len_b hO.1 y1 m1
    have lb2 := len_b hO.1 y2 m2
    have cb1 := cdO_b (d := d1) ⟨v1.1, v1.2.1, by have := v1.2.2; omega⟩
    have cb2 := cdO_b (d := d2) ⟨v2.1, v2.2.1, by have := v2.2.2; omega⟩
    rw [ffB_s _ (by omega : s - 4 * c < C.1)]
    have nx : s - 4 * c + 1 = s + 1 - 4 * c := by omega
    have key : eD (C.2 (s - 4 * c)) x = true ↔ (C.2 (s - 4 * c)).2.1 ≤ x ∧ x - (C.2 (s - 4 * c)).2.1 ≤ od (C.2 (s - 4 * c)).1 y2 m2 d2 - od (C.2 (s - 4 * c)).1 y1 m1 d1 := by
      rw [eD_t, o1, o2]
    have a1 := od_le hO.1 v1 v2
    have ob1 := od_b hO.1 v1
    have ob2 := od_b hO.1 v2
    have hO2 := hO.2.1
    have skip : eD (C.2 (s - 4 * c)) x = false → ((4 * c ≤ s + 1 ∧ s + 1 ≤ 4 * c + C.1) ∧ (if eD (C.2 (s - 4 * c)) x = true then some (s - 4 * c) else ffB (fun k => eD (C.2 k) x) ((C.1 : Int) - (s - 4 * c + 1)).toNat (s - 4 * c + 1)) = ffB (fun k => eD (C.2 k) x) ((C.1 : Int) - (s + 1 - 4 * c)).toNat (s + 1 - 4 * c)) ∧ (4 * c + (C.1 : Int) - (s + 1)).toNat < (4 * c + (C.1 : Int) - s).toNat := by
      intro z
      rw [z, nx]
      exact ⟨⟨by omega, by simp⟩, by omega⟩
    have fls : ∀ b : Bool, ¬ b = true → b = false := by intro b; cases b <;> simp
    unfold f_X6_dateOf_j85 f_X6_dateOf_j86
    simp only [T_some, T_none, T_ck, T_cLt, T_cEq, T_jLt, T_jEq, T_bind, T_bd2, T_wS, T_cO, T_nnS, T_cNullN, T_cNullS, T_bT1, T_bT2, T_ex, T_ite, T_dC, Sum.elim_inl, Sum.elim_inr, g1, g2, X6_ordinal hL v1, X6_ordinal hL v2, hd0]
    refine ⟨by omega, by omega, by omega, by omega, fun z => ⟨by omega, fun _ => skip (fls _ (fun t => by have := key.mp t; omega)), fun q => absurd trivial q⟩, fun z => ⟨by omega, by omega, fun z1 => ⟨by omega, fun _ => skip (fls _ (fun t => by have := key.mp t; omega)), fun q => absurd trivial q⟩, fun z1 => ⟨by omega, by omega, by omega, fun z2 => ⟨by omega, fun _ => skip (fls _ (fun t => by have := key.mp t; omega)), fun q => absurd trivial q⟩, fun z2 => ⟨by omega, fun q => by omega, fun _ => ⟨by omega, ?_⟩⟩⟩⟩⟩
    have kt := key.mpr ⟨by omega, by omega⟩
    obtain ⟨y, m, d, v, h1, h2, h3⟩ := eD_ex hO kt
    rw [if_pos kt]
    dsimp only
    rw [h3, o1, ← h2]
    exact T_of (X6_dated hL v) rfl
  · simp only [T_some, T_none, T_ck, T_cLt, T_cEq, T_jLt, T_jEq, T_bind, T_bd2, T_wS, T_cO, T_nnS, T_cNullN, T_cNullS, T_bT1, T_bT2, T_ex, T_ite, T_dC, Sum.elim_inl, Sum.elim_inr]
    have : ((C.1 : Int) - (s - 4 * c)).toNat = 0 := by omega
    rw [this]; rfl
theorem X6_kindOf (ho : oc σ o 5) (hn : gI σ o 14 0 = n) (hc : 0 ≤ c ∧ c < n) (n6 : n ≤ 6) (h : CalM σ o c C) (hy : inR y) : f_X6_kindOf σ o c y = some (kindC C y) := by
  unfold f_X6_kindOf kindC
  rw [cO_t ho]
  refine T_eq.mp ?_
  have b1 := bI_b (hasC C y 1 1)
  have b2 := bI_b (hasC C y 12 31)
  have d1 := dayC_b h.2.2.2 y 1 1
  have d2 := dayC_b h.2.2.2 y 12 31
  simp only [T_some, T_none, T_ck, T_cLt, T_cEq, T_jLt, T_jEq, T_bind, T_bd2, T_wS, T_cO, T_nnS, T_cNullN, T_cNullS, T_bT1, T_bT2, T_ex, T_ite, T_dC, Sum.elim_inl, Sum.elim_inr, X6_isDate ho hn hc n6 h hy (by omega : inR 1) (by omega : inR 1), X6_isDate ho hn hc n6 h hy (by omega : inR 12) (by omega : inR 31)]
  refine ⟨by omega, fun q => ?_, fun q => ⟨by omega, fun q1 => ?_, fun q1 => ?_⟩⟩
  · rw [bI_0] at q; rw [if_neg (by rw [q]; simp)]
  · rw [bI_0] at q1; rw [if_neg (by rw [q1]; simp)]
  · rw [bI_n] at q q1
    rw [if_pos ⟨q, q1⟩]
    simp only [T_some, T_none, T_ck, T_cLt, T_cEq, T_jLt, T_jEq, T_bind, T_bd2, T_wS, T_cO, T_nnS, T_cNullN, T_cNullS, T_bT1, T_bT2, T_ex, T_ite, T_dC, Sum.elim_inl, Sum.elim_inr, X6_dayOf ho hn hc n6 h q, X6_dayOf ho hn hc n6 h q1, X6_in (by omega : inR (dayC C y 12 31 - dayC C y 1 1)) (by omega : inR 364) (by omega : inR 365)]
    have b3 := b01_b (364 ≤ dayC C y 12 31 - dayC C y 1 1 ∧ dayC C y 12 31 - dayC C y 1 1 ≤ 365)
    refine ⟨by omega, fun c => ?_, fun c => ?_⟩
    · rw [b01_0] at c; rw [if_neg (by omega)]
    · rw [b01_0] at c; rw [if_pos (by omega)]; exact ⟨by omega, rfl⟩
end
