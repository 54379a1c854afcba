/-! eras, calendars: both sides find the same dates -/
set_option maxRecDepth 100000
def bI (b : Bool) : Int := if b then 1 else 0
theorem bI_b (b : Bool) : bI b = 0 ∨ bI b = 1 := by cases b <;> simp [bI]
theorem bI_0 {b : Bool} : bI b = 0 ↔ b = false := by cases b <;> simp [bI]
theorem bI_n {b : Bool} : ¬ bI b = 0 ↔ b = true := by cases b <;> simp [bI]
/-- the first of a range -/
def ffB (p : Int → Bool) : Nat → Int → Option Int
  | 0, _ => none
  | n + 1, lo => if p lo then some lo else ffB p n (lo + 1)
theorem ffB_s (p : Int → Bool) {k hi : Int} (h : k < hi) : ffB p (hi - k).toNat k = if p k then some k else ffB p (hi - (k + 1)).toNat (k + 1) := by
  have e : (hi - k).toNat = (hi - (k + 1)).toNat + 1 := by omega
  rw [e]; rfl
theorem ffB_some {p : Int → Bool} {n : Nat} : ∀ {lo k : Int}, ffB p n lo = some k → (lo ≤ k ∧ k < lo + n) ∧ p k = true ∧ ∀ j, lo ≤ j → j < k → p j = false := by
  induction n with
  | zero => intro lo k h; cases h
  | succ n ih =>
    intro lo k h
    unfold ffB at h
    split at h
    · rename_i c
      cases h
      exact ⟨by omega, c, fun j j1 j2 => by omega⟩
    · rename_i c
      obtain ⟨a, b, d⟩ := ih h
      refine ⟨by omega, b, fun j j1 j2 => ?_⟩
      by_cases e : j = lo
      · subst e; cases hp : p j with
        | true => exact absurd hp c
        | false => rfl
      · exact d j (by omega) j2
theorem ffB_none {p : Int → Bool} {n : Nat} : ∀ {lo : Int}, ffB p n lo = none → ∀ j, lo ≤ j → j < lo + n → p j = false := by
  induction n with
  | zero => intro lo _ j j1 j2; omega
  | succ n ih =>
    intro lo h j j1 j2
    unfold ffB at h
    split at h
    · cases h
    · rename_i c
      by_cases e : j = lo
      · subst e; cases hp : p j with
        | true => exact absurd hp c
        | false => rfl
      · exact ih h j (by omega) (by omega)
theorem ffB_cg {p q : Int → Bool} {n : Nat} : ∀ {lo : Int}, (∀ j, lo ≤ j → j < lo + n → p j = q j) → ffB p n lo = ffB q n lo := by
  induction n with
  | zero => intro lo _; rfl
  | succ n ih =>
    intro lo h
    unfold ffB
    rw [h lo (by omega) (by omega), ih (fun j j1 j2 => h j (by omega) (by omega))]
theorem ffB_of {p : Int → Bool} {n : Nat} {lo k : Int} (h1 : lo ≤ k) (h2 : k < lo + n) (h3 : p k = true) (h4 : ∀ j, lo ≤ j → j < k → p j = false) : ffB p n lo = some k := by
  cases e : ffB p n lo with
  | none => rw [ffB_none e k h1 h2] at h3; cases h3
  | some j =>
    obtain ⟨a, b, c⟩ := ffB_some e
    by_cases c1 : j < k
    · rw [h4 j a.1 c1] at b; cases b
    · by_cases c2 : k < j
      · rw [c k h1 c2] at h3; cases h3
      · congr 1; omega
def eH (E : EraT) (y m d : Int) : Bool := decide (d ≤ len E.1 y m ∧ E.2.2.1 ≤ od E.1 y m d ∧ od E.1 y m d ≤ E.2.2.2)
def inD (y m d : Int) : Bool := decide ((1 ≤ y ∧ y ≤ 9999) ∧ (1 ≤ m ∧ m ≤ 12) ∧ (1 ≤ d ∧ d ≤ 31))
def cE (C : Cal) (y m d : Int) : Option Int := if inD y m d then ffB (fun k => eH (C.2 k) y m d) C.1 0 else none
def hasC (C : Cal) (y m d : Int) : Bool := (cE C y m d).isSome
def dayE (E : EraT) (y m d : Int) : Int := E.2.1 + od E.1 y m d - E.2.2.1
def dayC (C : Cal) (y m d : Int) : Int := match cE C y m d with
  | some k => dayE (C.2 k) y m d
  | none => 0
def eD (E : EraT) (day : Int) : Bool := decide (E.2.1 ≤ day ∧ day - E.2.1 ≤ E.2.2.2 - E.2.2.1)
def cA (C : Cal) (day : Int) : Option Int := ffB (fun k => eD (C.2 k) day) C.1 0
noncomputable def dateC (C : Cal) (day : Int) : Int := match cA C day with
  | some k => dtC (C.2 k).1 (day - (C.2 k).2.1 + (C.2 k).2.2.1)
  | none => -1
def kindC (C : Cal) (y : Int) : Int := if hasC C y 1 1 = true ∧ hasC C y 12 31 = true then (if dayC C y 12 31 - dayC C y 1 1 = 364 ∨ dayC C y 12 31 - dayC C y 1 1 = 365 then 2 * Int.tmod (dayC C y 1 1) 7 + (dayC C y 12 31 - dayC C y 1 1) - 364 else -1) else -1
def eraOK (E : EraT) : Prop := lepOK E.1 ∧ (0 ≤ E.2.1 ∧ E.2.1 ≤ 15000000) ∧ (0 ≤ E.2.2.1 ∧ E.2.2.1 ≤ 3700000) ∧ (0 ≤ E.2.2.2 ∧ E.2.2.2 < yr E.1 10000)
def calOK (C : Cal) : Prop := (1 ≤ C.1 ∧ C.1 ≤ 4) ∧ (∀ k : Int, 0 ≤ k → k < C.1 → eraOK (C.2 k)) ∧ ∀ k : Int, 0 ≤ k → k + 1 < C.1 → (C.2 (k + 1)).2.1 = (C.2 k).2.1 + (C.2 k).2.2.2 - (C.2 k).2.2.1 + 1 ∧ (C.2 k).2.2.1 ≤ (C.2 k).2.2.2
theorem inD_t {y m d : Int} : inD y m d = true ↔ (1 ≤ y ∧ y ≤ 9999) ∧ (1 ≤ m ∧ m ≤ 12) ∧ (1 ≤ d ∧ d ≤ 31) := by simp [inD]
theorem eH_t {E : EraT} {y m d : Int} : eH E y m d = true ↔ d ≤ len E.1 y m ∧ E.2.2.1 ≤ od E.1 y m d ∧ od E.1 y m d ≤ E.2.2.2 := by simp [eH]
theorem eD_t {E : EraT} {k : Int} : eD E k = true ↔ E.2.1 ≤ k ∧ k - E.2.1 ≤ E.2.2.2 - E.2.2.1 := by simp [eD]
theorem cE_some {C : Cal} {y m d k : Int} (h : cE C y m d = some k) : inD y m d = true ∧ (0 ≤ k ∧ k < C.1) ∧ eH (C.2 k) y m d = true ∧ ∀ j, 0 ≤ j → j < k → eH (C.2 j) y m d = false := by
  unfold cE at h
  split at h
  · rename_i c
    obtain ⟨a, b, e⟩ := ffB_some h
    exact ⟨c, by omega, b, e⟩
  · cases h
theorem hasC_t {C : Cal} {y m d : Int} (h : hasC C y m d = true) : ∃ k, cE C y m d = some k := by
  unfold hasC at h
  cases e : cE C y m d with
  | none => rw [e] at h; cases h
  | some k => exact ⟨k, rfl⟩
theorem vd_of {E : EraT} {y m d : Int} (h1 : inD y m d = true) (h2 : eH E y m d = true) : vd E.1 y m d := by
  rw [inD_t] at h1
  rw [eH_t] at h2
  exact ⟨by omega, by omega, by omega⟩
theorem dayC_of {C : Cal} {y m d k : Int} (h : cE C y m d = some k) : dayC C y m d = dayE (C.2 k) y m d := by unfold dayC; rw [h]
theorem yr_9 {L : Lep} (h : lepOK L) : yr L 10000 ≤ 3660000 := by have := yr_b h (y := 10000) (by omega); omega
theorem dayE_b {E : EraT} (h : eraOK E) {y m d : Int} (h2 : eH E y m d = true) : 0 ≤ dayE E y m d ∧ dayE E y m d ≤ 19000000 := by
  rw [eH_t] at h2
  obtain ⟨h0, h1, h3, h4⟩ := h
  have := yr_9 h0
  unfold dayE
  omega
theorem dayC_b {C : Cal} (h : calOK C) (y m d : Int) : 0 ≤ dayC C y m d ∧ dayC C y m d ≤ 19000000 := by
  cases e : cE C y m d with
  | none => unfold dayC; rw [e]; simp
  | some k =>
    obtain ⟨a, b, c, f⟩ := cE_some e
    rw [dayC_of e]
    exact dayE_b (h.2.1 k b.1 b.2) c
/-! DayBoy's side -/
def EraX (σ : St) (e : Nat) (E : EraT) : Prop := oc σ e 2 ∧ (∃ l, gP σ e 0 0 = some l ∧ LepX σ l E.1) ∧ gI σ e 1 0 = E.2.1 ∧ gI σ e 2 0 = E.2.2.1 ∧ gI σ e 3 0 = E.2.2.2
def CalX (σ : St) (a : Nat) (C : Cal) : Prop := oc σ a 1 ∧ gI σ a 1 0 = C.1 ∧ (∀ k : Int, 0 ≤ k → k < C.1 → ∃ e, gP σ a 0 k = some e ∧ EraX σ e (C.2 k)) ∧ calOK C
section
variable {σ : St} {a e : Nat} {E : EraT} {C : Cal} {y m d : Int}
theorem X3_has (h : EraX σ e E) (hE : eraOK E) (hi : inD y m d = true) : f_X3_has σ e y m d = some (bI (eH E y m d)) := by
  obtain ⟨ho, ⟨l, hl, hL⟩, h1, h2, h3⟩ := h
  rw [inD_t] at hi
  have lb := len_b hE.1 y m
  have y9 := yr_9 hE.1
  obtain ⟨_, e1, e2, e3⟩ := hE
  unfold f_X3_has
  rw [cO_t ho, hl, h2, h3]
  refine T_eq.mp ?_
  simp only [T_some, T_none, T_ck, T_cLt, T_cEq, T_jLt, T_jEq, T_bind, T_bd2, T_wS, T_cO, T_nnS, T_cNullN, T_cNullS, T_bT1, T_bT2, T_ex, T_ite, T_dC, Sum.elim_inl, Sum.elim_inr, X4_length hL.1 (by omega : inR y) (by omega : inR m), X4_place hL (by omega : 1 ≤ y) (by omega) (by omega : 1 ≤ m) (by omega) (by omega : inR d)]
  refine ⟨hL.1.1, by omega, fun q => ?_, fun q => ⟨hL.1.1, ?_⟩⟩
  · unfold bI; rw [if_neg]; rw [eH_t]; omega
  · rw [plM_od (by omega)]
    have v : vd E.1 y m d := ⟨by omega, by omega, by omega⟩
    have ob := od_b ‹lepOK E.1› v
    simp only [X1_isIn (by omega : inL (od E.1 y m d)) (by omega : inL E.2.2.1) (by omega : inL E.2.2.2), T_some, T_none, T_ck, T_cLt, T_cEq, T_jLt, T_jEq, T_bind, T_bd2, T_wS, T_cO, T_nnS, T_cNullN, T_cNullS, T_bT1, T_bT2, T_ex, T_ite, T_dC, Sum.elim_inl, Sum.elim_inr]
    refine ⟨by omega, by omega, by omega, ⟨by have := b01_b (E.2.2.1 ≤ od E.1 y m d ∧ od E.1 y m d ≤ E.2.2.2); omega, by omega⟩, fun q1 => ?_, fun q1 => ?_⟩
    · rw [b01_0] at q1; unfold bI; rw [if_neg]; rw [eH_t]; omega
    · rw [b01_0] at q1; unfold bI; rw [if_pos]; rw [eH_t]; omega
theorem X3_dayOf (h : EraX σ e E) (hE : eraOK E) (hi : inD y m d = true) (h2 : eH E y m d = true) : f_X3_dayOf σ e y m d = some (dayE E y m d) := by
  obtain ⟨ho, ⟨l, hl, hL⟩, h1, h3, h4⟩ := h
  rw [inD_t] at hi
  rw [eH_t] at h2
  unfold f_X3_dayOf dayE
  rw [cO_t ho, hl, h1, h3]
  refine T_eq.mp ?_
  simp only [T_some, T_none, T_ck, T_cLt, T_cEq, T_jLt, T_jEq, T_bind, T_bd2, T_wS, T_cO, T_nnS, T_cNullN, T_cNullS, T_bT1, T_bT2, T_ex, T_ite, T_dC, Sum.elim_inl, Sum.elim_inr, X4_place hL (by omega : 1 ≤ y) (by omega) (by omega : 1 ≤ m) (by omega) (by omega : inR d)]
  rw [plM_od (by omega)]
  exact ⟨hL.1.1, rfl⟩
theorem X2_eraOf (h : CalX σ a C) (hy : inR y) (hm : inR m) (hd : inR d) : T (f_X2_eraOf σ a y m d) (fun r => match cE C y m d with
    | none => r = none
    | some k => ∃ e, r = some e ∧ EraX σ e (C.2 k)) := by
  obtain ⟨ho, hn, hk, hC⟩ := h
  have n4 := hC.1
  unfold f_X2_eraOf
  simp only [T_some, T_none, T_ck, T_cLt, T_cEq, T_jLt, T_jEq, T_bind, T_bd2, T_wS, T_cO, T_nnS, T_cNullN, T_cNullS, T_bT1, T_bT2, T_ex, T_ite, T_dC, Sum.elim_inl, Sum.elim_inr, X1_isIn (by omega : inL y) (by omega : inL 1) (by omega : inL 9999), X1_isIn (by omega : inL m) (by omega : inL 1) (by omega : inL 12), X1_isIn (by omega : inL d) (by omega : inL 1) (by omega : inL 31)]
  have b1 := b01_b (1 ≤ y ∧ y ≤ 9999)
  have b2 := b01_b (1 ≤ m ∧ m ≤ 12)
  have b3 := b01_b (1 ≤ d ∧ d ≤ 31)
  have no : inD y m d = false → cE C y m d = none := fun q => by unfold cE; rw [q]; rfl
  refine ⟨ho, hy, by omega, fun q => ?_, fun q => ⟨hm, by omega, fun q1 => ?_, fun q1 => ⟨hd, by omega, fun q2 => ?_, fun q2 => ?_⟩⟩⟩
  · rw [b01_0] at q; rw [no (by simp [inD]; omega)]; exact trivial
  · rw [b01_0] at q1; rw [no (by simp [inD]; omega)]; exact trivial
  · rw [b01_0] at q2; rw [no (by simp [inD]; omega)]; exact trivial
  · rw [b01_0, Decidable.not_not] at q q1 q2
    have hi : inD y m d = true := by rw [inD_t]; exact ⟨q, q1, q2⟩
    have e0 : cE C y m d = ffB (fun k => eH (C.2 k) y m d) ((C.1 : Int) - 0).toNat 0 := by
      unfold cE; rw [if_pos hi]; congr 1
    rw [e0]
    refine T_lp (fun k : Int => (0 ≤ k ∧ k ≤ C.1) ∧ ffB (fun k => eH (C.2 k) y m d) ((C.1 : Int) - 0).toNat 0 = ffB (fun k => eH (C.2 k) y m d) ((C.1 : Int) - k).toNat k) (fun k : Int => ((C.1 : Int) - k).toNat) ?_ ⟨by omega, rfl⟩
    intro k ⟨k1, k2⟩
    unfold f_X2_eraOf_b41
    rw [k2, hn]
    simp only [T_cLt]
    refine ⟨by omega, fun c => ?_, fun c => ?_⟩
    · obtain ⟨e, he, hE⟩ := hk k k1.1 c
      rw [he]
      have hb := bI_b (eH (C.2 k) y m d)
      simp only [T_some, T_none, T_ck, T_cLt, T_cEq, T_jLt, T_jEq, T_bind, T_bd2, T_wS, T_cO, T_nnS, T_cNullN, T_cNullS, T_bT1, T_bT2, T_ex, T_ite, T_dC, Sum.elim_inl, Sum.elim_inr, X3_has hE (hC.2.1 k k1.1 c) hi]
      rw [ffB_s _ c]
      refine ⟨by omega, hE.1, by omega, fun z => ?_, fun z => ⟨by omega, ?_⟩⟩
      · rw [bI_0] at z
        refine ⟨⟨by omega, ?_⟩, by omega⟩
        rw [z]; rfl
      · rw [bI_n] at z
        rw [if_pos z]
        exact ⟨e, rfl, hE⟩
    · simp only [T_some, T_none, T_ck, T_cLt, T_cEq, T_jLt, T_jEq, T_bind, T_bd2, T_wS, T_cO, T_nnS, T_cNullN, T_cNullS, T_bT1, T_bT2, T_ex, T_ite, T_dC, Sum.elim_inl, Sum.elim_inr]
      have : ((C.1 : Int) - k).toNat = 0 := by omega
      rw [this]; exact trivial
theorem X2_has (h : CalX σ a C) (hy : inR y) (hm : inR m) (hd : inR d) : f_X2_has σ a y m d = some (bI (hasC C y m d)) := by
  unfold f_X2_has hasC
  rw [cO_t h.1]
  refine T_eq.mp ?_
  rw [T_bind]
  refine T_mono (X2_eraOf h hy hm hd) (fun r hr => ?_)
  cases e : cE C y m d with
  | none => rw [e] at hr; rw [hr]; simp only [T_some, T_none, T_ck, T_cLt, T_cEq, T_jLt, T_jEq, T_bind, T_bd2, T_wS, T_cO, T_nnS, T_cNullN, T_cNullS, T_bT1, T_bT2, T_ex, T_ite, T_dC, Sum.elim_inl, Sum.elim_inr]; rfl
  | some k => rw [e] at hr; obtain ⟨e, he, _⟩ := hr; rw [he]; simp only [T_some, T_none, T_ck, T_cLt, T_cEq, T_jLt, T_jEq, T_bind, T_bd2, T_wS, T_cO, T_nnS, T_cNullN, T_cNullS, T_bT1, T_bT2, T_ex, T_ite, T_dC, Sum.elim_inl, Sum.elim_inr]; rfl
theorem X2_day (h : CalX σ a C) (hh : hasC C y m d = true) : f_X2_day σ a y m d = some (dayC C y m d) := by
  obtain ⟨k, hk⟩ := hasC_t hh
  obtain ⟨c1, c2, c3, c4⟩ := cE_some hk
  have ci := inD_t.mp c1
  unfold f_X2_day
  rw [cO_t h.1]
  refine T_eq.mp ?_
  rw [T_bind]
  refine T_mono (X2_eraOf h (by omega) (by omega) (by omega)) (fun r hr => ?_)
  rw [hk] at hr
  obtain ⟨e, he, hE⟩ := hr
  rw [he]
  have hO := h.2.2.2.2.1 k c2.1 c2.2
  simp only [T_some, T_none, T_ck, T_cLt, T_cEq, T_jLt, T_jEq, T_bind, T_bd2, T_wS, T_cO, T_nnS, T_cNullN, T_cNullS, T_bT1, T_bT2, T_ex, T_ite, T_dC, Sum.elim_inl, Sum.elim_inr, X3_dayOf hE hO c1 c3]
  exact ⟨hE.1, (dayC_of hk).symm⟩
theorem X2_week (h : CalX σ a C) (hh : hasC C y m d = true) : f_X2_week σ a y m d = some (Int.tmod (dayC C y m d) 7) := by
  have b := dayC_b h.2.2.2 y m d
  unfold f_X2_week
  rw [cO_t h.1, X2_day h hh]
  refine T_eq.mp ?_
  simp only [T_some, T_none, T_ck, T_cLt, T_cEq, T_jLt, T_jEq, T_bind, T_bd2, T_wS, T_cO, T_nnS, T_cNullN, T_cNullS, T_bT1, T_bT2, T_ex, T_ite, T_dC, Sum.elim_inl, Sum.elim_inr]
  exact ⟨by omega, trivial⟩
theorem X2_kind (h : CalX σ a C) (hy : inR y) : f_X2_kind σ a y = some (kindC C y) := by
  unfold f_X2_kind f_X2_kind_j56 kindC
  rw [cO_t h.1]
  refine T_eq.mp ?_
  have b1 := bI_b (hasC C y 1 1)
  have b2 := bI_b (hasC C y 12 31)
  have d1 := dayC_b h.2.2.2 y 1 1
  have d2 := dayC_b h.2.2.2 y 12 31
  simp only [T_some, T_none, T_ck, T_cLt, T_cEq, T_jLt, T_jEq, T_bind, T_bd2, T_wS, T_cO, T_nnS, T_cNullN, T_cNullS, T_bT1, T_bT2, T_ex, T_ite, T_dC, Sum.elim_inl, Sum.elim_inr, X2_has h hy (by omega : inR 1) (by omega : inR 1), X2_has h hy (by omega : inR 12) (by omega : inR 31)]
  refine ⟨by omega, fun q => ?_, fun q => ⟨by omega, fun q1 => ?_, fun q1 => ?_⟩⟩
  · rw [bI_0] at q; rw [if_neg (by rw [q]; simp)]
  · rw [bI_0] at q1; rw [if_neg (by rw [q1]; simp)]
  · rw [bI_n] at q q1
    rw [if_pos ⟨q, q1⟩]
    simp only [T_some, T_none, T_ck, T_cLt, T_cEq, T_jLt, T_jEq, T_bind, T_bd2, T_wS, T_cO, T_nnS, T_cNullN, T_cNullS, T_bT1, T_bT2, T_ex, T_ite, T_dC, Sum.elim_inl, Sum.elim_inr, X2_day h q, X2_day h q1, X2_week h q]
    refine ⟨by omega, fun c => ?_, fun c => ⟨by omega, fun c1 => ?_, fun c1 => ?_⟩⟩
    · rw [if_pos (Or.inl c)]
    · rw [if_pos (Or.inr c1)]
    · rw [if_neg (by omega)]
theorem X3_hasDay (h : EraX σ e E) (hE : eraOK E) {k : Int} (hk : inR k) : f_X3_hasDay σ e k = some (bI (eD E k)) := by
  obtain ⟨ho, _, h1, h2, h3⟩ := h
  have y9 := yr_9 hE.1
  obtain ⟨_, e1, e2, e3⟩ := hE
  unfold f_X3_hasDay
  rw [cO_t ho, h1, h2, h3]
  refine T_eq.mp ?_
  simp only [T_some, T_none, T_ck, T_cLt, T_cEq, T_jLt, T_jEq, T_bind, T_bd2, T_wS, T_cO, T_nnS, T_cNullN, T_cNullS, T_bT1, T_bT2, T_ex, T_ite, T_dC, Sum.elim_inl, Sum.elim_inr]
  refine ⟨by omega, fun q => ?_, fun q => ⟨by omega, fun q1 => ?_, fun q1 => ?_⟩⟩
  · unfold bI; rw [if_neg]; rw [eD_t]; omega
  · unfold bI; rw [if_neg]; rw [eD_t]; omega
  · unfold bI; rw [if_pos]; rw [eD_t]; omega
theorem X2_eraAt (h : CalX σ a C) {x : Int} (hx : inR x) : T (f_X2_eraAt σ a x) (fun r => match cA C x with
    | none => r = none
    | some k => ∃ e, r = some e ∧ EraX σ e (C.2 k)) := by
  obtain ⟨ho, hn, hk, hC⟩ := h
  have n4 := hC.1
  unfold f_X2_eraAt
  rw [cO_t ho]
  have e0 : cA C x = ffB (fun k => eD (C.2 k) x) ((C.1 : Int) - 0).toNat 0 := by unfold cA; congr 1
  rw [e0]
  refine T_lp (fun k : Int => (0 ≤ k ∧ k ≤ C.1) ∧ ffB (fun k => eD (C.2 k) x) ((C.1 : Int) - 0).toNat 0 = ffB (fun k => eD (C.2 k) x) ((C.1 : Int) - k).toNat k) (fun k : Int => ((C.1 : Int) - k).toNat) ?_ ⟨by omega, rfl⟩
  intro k ⟨k1, k2⟩
  unfold f_X2_eraAt_b2
  rw [k2, hn]
  simp only [T_cLt]
  refine ⟨by omega, fun c => ?_, fun c => ?_⟩
  · obtain ⟨e, he, hE⟩ := hk k k1.1 c
    rw [he]
    have hb := bI_b (eD (C.2 k) x)
    simp only [T_some, T_none, T_ck, T_cLt, T_cEq, T_jLt, T_jEq, T_bind, T_bd2, T_wS, T_cO, T_nnS, T_cNullN, T_cNullS, T_bT1, T_bT2, T_ex, T_ite, T_dC, Sum.elim_inl, Sum.elim_inr, X3_hasDay hE (hC.2.1 k k1.1 c) hx]
    rw [ffB_s _ c]
    refine ⟨by omega, hE.1, by omega, fun z => ?_, fun z => ⟨by omega, ?_⟩⟩
    · rw [bI_0] at z
      refine ⟨⟨by omega, ?_⟩, by omega⟩
      rw [z]; rfl
    · rw [bI_n] at z
      rw [if_pos z]
      exact ⟨e, rfl, hE⟩
  · simp only [T_some, T_none, T_ck, T_cLt, T_cEq, T_jLt, T_jEq, T_bind, T_bd2, T_wS, T_cO, T_nnS, T_cNullN, T_cNullS, T_bT1, T_bT2, T_ex, T_ite, T_dC, Sum.elim_inl, Sum.elim_inr]
    have : ((C.1 : Int) - k).toNat = 0 := by omega
    rw [this]; exact trivial
/-- a part of a date -/
def paR (c w : Int) : Int := if w = 0 then Int.tdiv c 10000 else if w = 1 then Int.tmod (Int.tdiv c 100) 100 else Int.tmod c 100
theorem cA_some {C : Cal} {x k : Int} (h : cA C x = some k) : (0 ≤ k ∧ k < C.1) ∧ eD (C.2 k) x = true ∧ ∀ j, 0 ≤ j → j < k → eD (C.2 j) x = false := by
  obtain ⟨a, b, c⟩ := ffB_some h
  exact ⟨by omega, b, c⟩
theorem eD_ex {E : EraT} (hE : eraOK E) {x : Int} (h : eD E x = true) : ∃ y m d, vd E.1 y m d ∧ y ≤ 9999 ∧ od E.1 y m d = x - E.2.1 + E.2.2.1 ∧ dtC E.1 (x - E.2.1 + E.2.2.1) = cdO y m d := by
  rw [eD_t] at h
  have m1 := yr_m hE.1 (x := 10000) (y := 10001) (by omega) (by omega)
  obtain ⟨e0, e1, e2, e3⟩ := hE
  obtain ⟨y, m, d, v, ho⟩ := od_ex e0 (p := x - E.2.1 + E.2.2.1) (by omega) (by omega)
  refine ⟨y, m, d, v, ?_, ho, ?_⟩
  · have := yr_le e0 v (z := 10000) (by omega)
    omega
  · rw [← ho]; exact dtC_eq e0 v
theorem dateC_cd {C : Cal} (hC : calOK C) (x : Int) : dateC C x = -1 ∨ ∃ k y m d, cA C x = some k ∧ vd (C.2 k).1 y m d ∧ y ≤ 9999 ∧ od (C.2 k).1 y m d = x - (C.2 k).2.1 + (C.2 k).2.2.1 ∧ dateC C x = cdO y m d := by
  cases e : cA C x with
  | none => left; unfold dateC; rw [e]
  | some k =>
    right
    obtain ⟨k1, k2, k3⟩ := cA_some e
    obtain ⟨y, m, d, v, h1, h2, h3⟩ := eD_ex (hC.2.1 k k1.1 k1.2) k2
    refine ⟨k, y, m, d, rfl, v, h1, h2, ?_⟩
    unfold dateC; rw [e]; exact h3
theorem X2_date (h : CalX σ a C) {x w : Int} (hx : inR x) (w0 : 0 ≤ w) (w3 : w ≤ 3) : f_X2_date σ a x w = some (if dateC C x = -1 then -1 else if w = 3 then Int.tmod x 7 else paR (dateC C x) w) := by
  unfold f_X2_date
  rw [cO_t h.1]
  refine T_eq.mp ?_
  rw [T_bind]
  refine T_mono (X2_eraAt h hx) (fun r hr => ?_)
  cases e : cA C x with
  | none =>
    rw [e] at hr; rw [hr]
    have e2 : dateC C x = -1 := by unfold dateC; rw [e]
    simp only [T_some, T_none, T_ck, T_cLt, T_cEq, T_jLt, T_jEq, T_bind, T_bd2, T_wS, T_cO, T_nnS, T_cNullN, T_cNullS, T_bT1, T_bT2, T_ex, T_ite, T_dC, Sum.elim_inl, Sum.elim_inr, e2]
    rfl
  | some k =>
    rw [e] at hr; obtain ⟨e', he, hE⟩ := hr; rw [he]
    obtain ⟨k1, k2, k3⟩ := cA_some e
    have hO := h.2.2.2.2.1 k k1.1 k1.2
    obtain ⟨y, m, d, v, h1, h2, h3⟩ := eD_ex hO k2
    have e2 : dateC C x = cdO y m d := by unfold dateC; rw [e]; exact h3
    obtain ⟨ho, ⟨l, hl, hL⟩, g1, g2, g3⟩ := hE
    have p1 : f_X3_placeOf σ e' x = some (od (C.2 k).1 y m d) := by
      unfold f_X3_placeOf; rw [cO_t ho, g1, g2, h2]
    obtain ⟨q1, q2, q3⟩ := cdO_y hO.1 v
    have ne : ¬ cdO y m d = -1 := by have := v.1; have := v.2.1; have := v.2.2; unfold cdO; omega
    simp only [T_some, T_none, T_ck, T_cLt, T_cEq, T_jLt, T_jEq, T_bind, T_bd2, T_wS, T_cO, T_nnS, T_cNullN, T_cNullS, T_bT1, T_bT2, T_ex, T_ite, T_dC, Sum.elim_inl, Sum.elim_inr, p1, hl, X4_yearAt hL v h1, X4_monthAt hL v h1, X4_dayAt hL v h1, e2]
    rw [if_neg ne]
    unfold paR
    refine ⟨ho, by omega, fun c => ⟨hL.1.1, ?_⟩, fun c => ⟨by omega, fun c1 => ⟨hL.1.1, ?_⟩, fun c1 => ⟨by omega, fun c2 => ⟨hL.1.1, ?_⟩, fun c2 => ⟨hx, ?_⟩⟩⟩⟩
    · rw [if_neg (by omega), if_pos c, q1]
    · rw [if_neg (by omega), if_neg c, if_pos c1, q2]
    · rw [if_neg (by omega), if_neg c, if_neg c1, q3]
    · rw [if_pos (by omega)]
/-- how many dates a month has -/
def manyC (C : Cal) (y m : Int) : Int := sm (fun d => bI (hasC C y m d)) 1 31
theorem X2_manyIn (h : CalX σ a C) (hy : inR y) (hm : inR m) : f_X2_manyIn σ a y m = some (manyC C y m) := by
  unfold f_X2_manyIn
  rw [cO_t h.1]
  refine T_eq.mp (T_lp (fun s => s.1 = sm (fun d => bI (hasC C y m d)) 1 (s.2 - 1).toNat ∧ 1 ≤ s.2 ∧ s.2 ≤ 32) (fun s => (32 - s.2).toNat) ?_ ⟨rfl, by omega, by omega⟩)
  intro ⟨n, k⟩ ⟨e, k1, k2⟩
  have e : n = sm (fun d => bI (hasC C y m d)) 1 (k - 1).toNat := e
  have k1 : 1 ≤ k := k1
  have k2 : k ≤ 32 := k2
  unfold f_X2_manyIn_b5
  have hb := bI_b (hasC C y m k)
  have st := sm_at (fun d => bI (hasC C y m d)) k1
  simp only [T_some, T_none, T_ck, T_cLt, T_cEq, T_jLt, T_jEq, T_bind, T_bd2, T_wS, T_cO, T_nnS, T_cNullN, T_cNullS, T_bT1, T_bT2, T_ex, T_ite, T_dC, Sum.elim_inl, Sum.elim_inr, X2_has h hy hm (by omega : inR k)]
  refine ⟨by omega, fun c => ⟨by omega, fun q => ⟨⟨?_, by omega, by omega⟩, by omega⟩, fun q => ⟨⟨?_, by omega, by omega⟩, by omega⟩⟩, fun c => ?_⟩
  · rw [st, e]; omega
  · rw [st, e]; omega
  · have : k = 32 := by omega
    rw [e, this]; rfl
end
