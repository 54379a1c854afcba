/-! right, row, run -/
set_option maxRecDepth 100000
theorem ju33 (v : Int) : 0 ≤ jUshr v 33 ∧ jUshr v 33 < 2147483648 := by
  have e : jUshr v 33 = ((Int64.ofInt v).toUInt64.toBitVec >>> 33).toInt := by
    unfold jUshr
    show ((Int64.ofInt v).toUInt64 >>> (33 : UInt64)).toBitVec.toInt = _
    rw [UInt64.toBitVec_shiftRight]
    rfl
  have n : ((Int64.ofInt v).toUInt64.toBitVec >>> 33).toNat < 2147483648 := by
    rw [BitVec.toNat_ushiftRight, Nat.shiftRight_eq_div_pow]
    have := (Int64.ofInt v).toUInt64.toBitVec.isLt
    omega
  rw [e, BitVec.toInt_eq_toNat_of_lt (by omega)]
  omega
def atV (A : AS) (g c k : Int) : Int := if isD A c (aV A 9 (3 * k)) (aV A 9 (3 * k + 1)) (aV A 9 (3 * k + 2)) && goC (aH A g) (aC A c) (aV A 9 (3 * k)) (aV A 9 (3 * k + 1)) then ansC (aH A g) (aC A c) (aV A 9 (3 * k)) (aV A 9 (3 * k + 1)) (aV A 9 (3 * k + 2)) else 7
def huF (A : AS) (g c : Int) : Nat → Int
  | 0 => 0
  | k + 1 => if huF A g c k = 3 then 3 else if atV A g c k = 7 then huF A g c k + 1 else 0
def roV (A : AS) (g c i : Int) : Int := if isH A g && (isC A c && isB i 0 (aV A 10 0 - 1)) then (if huF A g c i.toNat = 3 then 8 else atV A g c i) else -1
section
variable {σ : St} {x o a b : Nat} {A : AS} {g g' c y m d v k s p f t w i : Int} {C C' : Cal}
theorem R_nr (h : RR x o A σ) : (0 ≤ aV A 10 0 ∧ aV A 10 0 ≤ 160) ∧ gI σ o 69 0 = aV A 10 0 := ⟨h.2.1.1.2.2.2.2.2.2.1, h.2.2.2.1.2.2.2.2.2.2.2.2.2.2.2⟩
theorem huF_b : ∀ n : Nat, 0 ≤ huF A g c n ∧ huF A g c n ≤ 3
  | 0 => by simp [huF]
  | n + 1 => by
    have := huF_b n
    unfold huF; split
    · omega
    · split <;> omega
theorem huF_s {n : Nat} (h : huF A g c n = 3) : ∀ d : Nat, huF A g c (n + d) = 3
  | 0 => h
  | d + 1 => by show (if huF A g c (n + d) = 3 then 3 else _) = _; rw [if_pos (huF_s h d)]
theorem atV_b : atV A g c k = 7 ∨ (0 ≤ atV A g c k ∧ atV A g c k ≤ 6) := by
  unfold atV
  split
  · exact Or.inr ansC_b
  · exact Or.inl rfl
theorem hasC_1 {C : Cal} {m d : Int} : hasC C (-1) m d = false := by
  cases e : hasC C (-1) m d with
  | false => rfl
  | true => have := hasC_i e; omega
theorem X1_answerTo (h : RR x o A σ) (g1 : 0 ≤ g) (g2 : g < (aV A 7 0)) (c1 : 0 ≤ c) (c2 : c < (aV A 6 0)) (k1 : 0 ≤ k) (k2 : k < aV A 10 0) : T (f_X1_answerTo σ x (aHa A g) (aCa A c) k) (fun r => r.1 = atV A g c k ∧ RR x o A r.2) := by
  have nr := R_nr h
  have r0 := h.2.1.2.2.2.2.2.2.2.1 (3 * k) (by omega) (by omega)
  have r1 := h.2.1.2.2.2.2.2.2.2.1 (3 * k + 1) (by omega) (by omega)
  have r2 := h.2.1.2.2.2.2.2.2.2.1 (3 * k + 2) (by omega) (by omega)
  have hC := (R_cal h c1 c2).2
  unfold f_X1_answerTo atV isD
  rw [cO_t (R_x h), Rv9 h, Rv9 h, Rv9 h, isC_t.mpr ⟨c1, c2⟩]
  simp only [T_ck, T_cEq, T_some, T_cO, T_bind, X2_has hC r0 r1 r2, bI_R, true_and, bI_0, Bool.not_eq_false, T_bd2, Bool.true_and]
  refine ⟨by omega, by omega, by omega, by omega, fun z => ⟨by rw [z, hasC_1]; rfl, h⟩, fun z => ⟨hC.1, fun e => ⟨by rw [e]; rfl, h⟩, fun e => ?_⟩⟩
  obtain ⟨⟨y1, y2⟩, ⟨m1, m2⟩, d1, d2⟩ := hasC_i e
  refine T_mono (X1_hasWay h g1 g2 c1 c2 y1 y2 m1 m2) (fun r ⟨e1, h1⟩ => ?_)
  rw [e1, e]
  simp only [bI_R, true_and, bI_0, Bool.not_eq_false, Bool.true_and]
  refine ⟨fun z1 => ⟨by rw [z1]; rfl, h1⟩, fun z1 => ?_⟩
  refine T_mono (X1_answerOf h1 g1 g2 c1 c2 y1 y2 m1 m2 d1 d2 z1) (fun r ⟨e2, h2⟩ => ⟨?_, h2⟩)
  rw [e2, z1]; rfl
theorem O_rowX (h : RR x o A σ) (hg : inR g) (hc : inR c) (hi : inR i) : T (f_X1_row σ x g c i) (fun r => r.1 = roV A g c i ∧ RR x o A r.2) := by
  have n := R_n h
  have nr := R_nr h
  unfold f_X1_row roV
  rw [cO_t (R_x h), Rv10 h]
  simp only [T_bind, T_some, T_cEq, bI_R, true_and, bI_0, Bool.not_eq_false, X1_isHead h hg, X1_isCalendar h hc, T_ck, X1_isB (by omega : inL i) (by omega : inL 0) (by omega : inL (aV A 10 0 - 1))]
  refine ⟨fun e => ⟨by rw [e]; rfl, h⟩, fun e => ⟨fun e1 => ⟨by rw [e1]; simp, h⟩, fun e1 => ⟨hi, by omega, fun e2 => ⟨by rw [e2]; simp, h⟩, fun e2 => ?_⟩⟩⟩
  have q := isH_t.mp e
  have qc := isC_t.mp e1
  have ib := isB_t.mp e2
  rw [e, e1, e2]
  simp only [Bool.and_self, if_true]
  have fin : ∀ σ1 v, RR x o A σ1 → v = huF A g c i.toNat → T (f_X1_row_j91 x g c i v σ1) (fun r => r.1 = (if huF A g c i.toNat = 3 then 8 else atV A g c i) ∧ RR x o A r.2) := by
    intro σ1 v h1 ev
    have hb := huF_b (A := A) (g := g) (c := c) i.toNat
    unfold f_X1_row_j91
    rw [(R_head h1 q.1 q.2).1, (R_cal h1 qc.1 qc.2).1, ev]
    simp only [T_cEq, T_some, T_cO, T_ck, T_nnS, T_bd2]
    refine ⟨by omega, fun z => ⟨by rw [if_pos z], h1⟩, fun z => ⟨R_x h1, by omega, by omega, T_mono (X1_answerTo h1 q.1 q.2 qc.1 qc.2 ib.1 (by omega)) (fun r ⟨e3, h3⟩ => ⟨by rw [e3, if_neg z], h3⟩)⟩⟩
  refine T_lp (fun t => (0 ≤ t.2.1 ∧ t.2.1 ≤ i) ∧ t.1 = huF A g c t.2.1.toNat ∧ RR x o A t.2.2) (fun t => (i - t.2.1).toNat) ?_ ⟨by dsimp only; omega, rfl, h⟩
  intro ⟨v, k, σ1⟩ ⟨k1, ev, h⟩
  dsimp only at k1 ev h
  have hb := huF_b (A := A) (g := g) (c := c) k.toNat
  unfold f_X1_row_b40
  simp only [T_cLt]
  refine ⟨by omega, fun z => ⟨by omega, fun z1 => ?_, fun z1 => ?_⟩, fun z => ?_⟩
  · rw [(R_head h q.1 q.2).1, (R_cal h qc.1 qc.2).1]
    simp only [T_cO, T_ck, T_nnS, T_bd2]
    refine ⟨R_x h, by omega, by omega, T_mono (X1_answerTo h q.1 q.2 qc.1 qc.2 k1.1 (by omega)) (fun r ⟨e3, h3⟩ => ?_)⟩
    have ab := atV_b (A := A) (g := g) (c := c) (k := k)
    have st : huF A g c (k + 1).toNat = if huF A g c k.toNat = 3 then 3 else if atV A g c k = 7 then huF A g c k.toNat + 1 else 0 := by
      rw [show (k + 1).toNat = k.toNat + 1 by omega]
      show (if huF A g c k.toNat = 3 then 3 else if atV A g c (k.toNat : Int) = 7 then _ else 0) = _
      rw [show ((k.toNat : Nat) : Int) = k by omega]
    rw [e3]
    simp only [T_some, T_none, T_ck, T_cLt, T_cEq, T_jLt, T_jEq, T_bind, T_bd2, T_wS, T_cO, T_nnS, T_cNullN, T_cNullS, T_bT1, T_bT2, T_ex, T_ite, T_dC, Sum.elim_inl, Sum.elim_inr]
    refine ⟨by omega, fun z2 => ⟨⟨by omega, ?_, h3⟩, by omega⟩, fun z2 => ⟨⟨by omega, ?_, h3⟩, by omega⟩⟩
    · rw [st, if_neg (by omega), if_pos z2, ev]
    · rw [st, if_neg (by omega), if_neg z2]
  · simp only [T_ex]
    refine fin σ1 v h ?_
    have e3 : huF A g c k.toNat = 3 := by omega
    rw [ev, e3, show i.toNat = k.toNat + (i - k).toNat by omega, huF_s e3]
  · simp only [T_ex]
    exact fin σ1 v h (by rw [ev]; congr 1; omega)
theorem O_rowM (h : RR x o A σ) (hg : inR g) (hc : inR c) (hi : inR i) : T (f_X6_row σ o g c i) (fun r => r.1 = roV A g c i ∧ RR x o A r.2) := by
  have n := R_n h
  have nr := R_nr h
  unfold f_X6_row roV
  rw [cO_t (R_o h), nr.2]
  simp only [T_bind, T_some, T_cEq, bI_R, true_and, bI_0, Bool.not_eq_false, X6_isHead h hg, X6_isCal h hc, X6_isB hi (by omega : inR 0) (by omega : inR (aV A 10 0 - 1))]
  refine ⟨fun e => ⟨by rw [e]; rfl, h⟩, fun e => ⟨fun e1 => ⟨by rw [e1]; simp, h⟩, fun e1 => ⟨fun e2 => ⟨by rw [e2]; simp, h⟩, fun e2 => ?_⟩⟩⟩
  have q := isH_t.mp e
  have qc := isC_t.mp e1
  have ib := isB_t.mp e2
  rw [e, e1, e2]
  simp only [Bool.and_self, if_true]
  refine T_lp (fun t => (0 ≤ t.2.2.1 ∧ t.2.2.1 ≤ i + 1) ∧ t.1 = huF A g c t.2.2.1.toNat ∧ (t.2.2.1 = i + 1 → t.2.1 = (if huF A g c i.toNat = 3 then 8 else atV A g c i)) ∧ RR x o A t.2.2.2) (fun t => (i + 1 - t.2.2.1).toNat) ?_ ⟨by dsimp only; omega, rfl, fun q => by dsimp only at q; omega, h⟩
  intro ⟨v, u, k, σ1⟩ ⟨k1, ev, eu, h⟩
  dsimp only at k1 ev eu h
  have hb := huF_b (A := A) (g := g) (c := c) k.toNat
  have ab := atV_b (A := A) (g := g) (c := c) (k := k)
  have st : 0 ≤ k → huF A g c (k + 1).toNat = if huF A g c k.toNat = 3 then 3 else if atV A g c k = 7 then huF A g c k.toNat + 1 else 0 := by
    intro k0
    rw [show (k + 1).toNat = k.toNat + 1 by omega]
    show (if huF A g c k.toNat = 3 then 3 else if atV A g c (k.toNat : Int) = 7 then _ else 0) = _
    rw [show ((k.toNat : Nat) : Int) = k by omega]
  unfold f_X6_row_b41
  simp only [T_cLt]
  refine ⟨by omega, fun z => ?_, fun z => ?_⟩
  · simp only [T_some, T_none, T_ck, T_cLt, T_cEq, T_jLt, T_jEq, T_bind, T_bd2, T_wS, T_cO, T_nnS, T_cNullN, T_cNullS, T_bT1, T_bT2, T_ex, T_ite, T_dC, Sum.elim_inl, Sum.elim_inr]
    exact ⟨eu (by omega), h⟩
  · have fin : ∀ σ2, RR x o A σ2 → ∀ tv, tv = (if huF A g c k.toNat = 3 then 8 else atV A g c k) → T (f_X6_row_j144 o g c i v k tv σ2) (Sum.elim (fun s' => ((0 ≤ s'.2.2.1 ∧ s'.2.2.1 ≤ i + 1) ∧ s'.1 = huF A g c s'.2.2.1.toNat ∧ (s'.2.2.1 = i + 1 → s'.2.1 = (if huF A g c i.toNat = 3 then 8 else atV A g c i)) ∧ RR x o A s'.2.2.2) ∧ (i + 1 - s'.2.2.1).toNat < (i + 1 - k).toNat) (fun r => r.1 = (if huF A g c i.toNat = 3 then 8 else atV A g c i) ∧ RR x o A r.2)) := by
      intro σ2 h2 tv et
      have tvb : inR tv := by rw [et]; split <;> omega
      have lst : k + 1 = i + 1 → tv = (if huF A g c i.toNat = 3 then 8 else atV A g c i) := by
        intro q; have : k = i := by omega
        rw [et, this]
      unfold f_X6_row_j144
      simp only [T_cEq, T_some, Sum.elim_inl]
      refine ⟨by omega, fun z1 => ⟨⟨by omega, ?_, lst, h2⟩, by omega⟩, fun z1 => ⟨by omega, fun z2 => ⟨⟨by omega, ?_, lst, h2⟩, by omega⟩, fun z2 => ⟨⟨by omega, ?_, lst, h2⟩, by omega⟩⟩⟩
      · rw [st k1.1]
        by_cases c3 : huF A g c k.toNat = 3
        · rw [et, if_pos c3] at z1; omega
        · rw [et, if_neg c3] at z1; rw [if_neg c3, if_pos z1, ev]
      · rw [st k1.1]
        by_cases c3 : huF A g c k.toNat = 3
        · rw [if_pos c3]
        · rw [et, if_neg c3] at z2; omega
      · rw [st k1.1]
        by_cases c3 : huF A g c k.toNat = 3
        · rw [et, if_pos c3] at z2; omega
        · rw [et, if_neg c3] at z1; rw [if_neg c3, if_neg z1]
    unfold f_X6_row_j116 f_X6_row_j117
    obtain ⟨w1, w2, w3, w4⟩ := h.2.2.2.2.2.2.2.2.2.2.2 k k1.1 (by omega)
    have r0 := h.2.1.2.2.2.2.2.2.2.1 (3 * k) (by omega) (by omega)
    refine ⟨by omega, fun z1 => ?_, fun z1 => ?_⟩
    · have n3 : ¬ huF A g c k.toNat = 3 := by omega
      have dd : isD A c (gI σ1 o 66 k) (gI σ1 o 67 k) (gI σ1 o 68 k) = isD A c (aV A 9 (3 * k)) (aV A 9 (3 * k + 1)) (aV A 9 (3 * k + 2)) := by
        rw [w1]
        by_cases cy : aV A 9 (3 * k) = -1
        · unfold isD; rw [cy, hasC_1, hasC_1]
        · rw [(w2 cy).1, (w2 cy).2]
      simp only [T_cO, T_ck, T_bind, T_some, X6_isDat h hc (by rw [w1]; exact r0 : inR (gI σ1 o 66 k)) w3 w4, T_cEq, bI_R, true_and, bI_0, Bool.not_eq_false]
      refine ⟨R_o h, by omega, by omega, by omega, fun e3 => ⟨by omega, fun z2 => by omega, fun _ => ⟨by omega, fun _ => ?_, fun q => absurd trivial q⟩⟩, fun e3 => ⟨by omega, by omega, by omega, ?_⟩⟩
      · refine fin σ1 h 7 ?_
        rw [if_neg n3]; unfold atV; rw [← dd, e3]; rfl
      · rw [dd] at e3
        obtain ⟨_, hh⟩ := isD_t.mp e3
        obtain ⟨⟨y1, y2⟩, ⟨m1, m2⟩, d1, d2⟩ := hasC_i hh
        have cy : ¬ aV A 9 (3 * k) = -1 := by omega
        rw [w1, (w2 cy).1, (w2 cy).2]
        simp only [T_bd2]
        refine T_mono (X6_answer h q.1 q.2 qc.1 qc.2 y1 y2 m1 m2 d1 d2) (fun r ⟨e4, f4, va, _⟩ => ?_)
        have h4 := RR_sc h f4
        rw [e4]
        simp only [T_cEq, bI_R, true_and, bI_0, Bool.not_eq_false, T_cO]
        refine ⟨fun z3 => ⟨by omega, fun z2 => by omega, fun _ => ⟨by omega, fun _ => ?_, fun q => absurd trivial q⟩⟩, fun z3 => ⟨by omega, fun z2 => by omega, fun _ => ⟨by omega, fun w => by omega, fun _ => ⟨R_o h4, ?_⟩⟩⟩⟩
        · refine fin r.2 h4 7 ?_
          rw [if_neg n3]; unfold atV; rw [e3, z3]; rfl
        · refine fin r.2 h4 _ ?_
          rw [if_neg n3]; unfold atV; rw [e3, z3, (va z3).1]; rfl
    · have e3 : huF A g c k.toNat = 3 := by omega
      simp only [T_cEq]
      refine ⟨by omega, fun _ => fin σ1 h 8 (by rw [if_pos e3]), fun q => by omega⟩
theorem roV_R : inR (roV A g c i) := by
  have := atV_b (A := A) (g := g) (c := c) (k := i)
  unfold roV
  split
  · split
    · omega
    · constructor <;> omega
  · omega
/-- run -/
def plG (A : AS) (g p : Int) : Bool := goC (aH A g) (aC A (aV A 16 p)) (aV A 17 p) (aV A 18 p)
def ruX (A : AS) (g seed : Int) : Nat → Int
  | 0 => seed
  | p + 1 => if plG A g p then ruX A g seed p * 6364136223846793005 + 1442695040888963407 else ruX A g seed p
def eaB (A : AS) (p : Int) : Bool := decide (0 < p ∧ ¬ kindC (aC A (aV A 16 p)) (aV A 17 p) = -1 ∧ kindC (aC A (aV A 16 p)) (aV A 17 p) = kindC (aC A (aV A 16 (p - 1))) (aV A 17 (p - 1)))
def ruV (A : AS) (g seed j e p : Int) : Int := if plG A g p then max 0 (tenC (aH A g) (aC A (aV A 16 p)) (aV A 17 p) (aV A 18 p) (aV A 19 p) + Int.tmod (jUshr (ruX A g seed p.toNat * 6364136223846793005 + 1442695040888963407) 33) (j + 1) - (if eaB A p then e else 0)) else -1
def ruR (A : AS) (g seed j e i : Int) : Int := if isH A g && (isB j 0 99 && (isB e 0 99 && isB i (-1) ((aV A 20 0) - 1))) then (if i = -1 then sm (fun p => max 0 (ruV A g seed j e p)) 0 ((aV A 20 0)).toNat else ruV A g seed j e i) else -1
theorem tj_b {v j : Int} (j0 : 0 ≤ j) (j9 : j ≤ 99) : 0 ≤ Int.tmod (jUshr v 33) (j + 1) ∧ Int.tmod (jUshr v 33) (j + 1) ≤ 99 := by
  have b := ju33 v
  have h1 := Int.tmod_lt_of_pos (jUshr v 33) (b := j + 1) (by omega)
  have h2 := Int.tmod_nonneg (j + 1) b.1
  omega
theorem R_pl (h : RR x o A σ) (p1 : 0 ≤ p) (p2 : p < (aV A 20 0)) : isD A (aV A 16 p) (aV A 17 p) (aV A 18 p) (aV A 19 p) = true := by
  obtain ⟨pc, pd⟩ := h.2.1.2.2.1 p p1 p2
  exact isD_t.mpr ⟨pc, pd⟩
theorem R_pm (h : RR x o A σ) (p1 : 0 ≤ p) (p2 : p < (aV A 20 0)) : gI σ o 50 p = aV A 16 p ∧ gI σ o 51 p = aV A 17 p ∧ gI σ o 52 p = aV A 18 p ∧ gI σ o 53 p = aV A 19 p := h.2.2.2.2.2.2.2.2.1 p p1 p2
theorem ruV_b {seed j e : Int} (h : RR x o A σ) (g1 : 0 ≤ g) (g2 : g < (aV A 7 0)) (p1 : 0 ≤ p) (p2 : p < (aV A 20 0)) (j0 : 0 ≤ j) (j9 : j ≤ 99) (e0 : 0 ≤ e) : -1 ≤ ruV A g seed j e p ∧ ruV A g seed j e p ≤ 3000000 := by
  obtain ⟨pc, pd⟩ := isD_t.mp (R_pl h p1 p2)
  obtain ⟨⟨y1, y2⟩, ⟨m1, m2⟩, d1, d2⟩ := hasC_i pd
  unfold ruV
  split
  · rename_i z
    have tb := tenC_b (R_hO h g1 g2) (C := aC A (aV A 16 p)) y1 y2 m1 m2 d1 d2 (goC_t z).1
    have rb := tj_b (v := ruX A g seed p.toNat * 6364136223846793005 + 1442695040888963407) j0 j9
    split <;> omega
  · omega
theorem X1_planKind (h : RR x o A σ) (p1 : 0 ≤ p) (p2 : p < (aV A 20 0)) : f_X1_planKind σ x p = some (kindC (aC A (aV A 16 p)) (aV A 17 p)) := by
  have n := R_n h
  obtain ⟨pc, pd⟩ := isD_t.mp (R_pl h p1 p2)
  obtain ⟨⟨y1, y2⟩, _⟩ := hasC_i pd
  have hC := (R_cal h pc.1 pc.2).2
  unfold f_X1_planKind
  rw [cO_t (R_x h), Rv16 h, Rv17 h, (R_cal h pc.1 pc.2).1]
  refine T_eq.mp ?_
  simp only [T_some, T_none, T_ck, T_cLt, T_cEq, T_jLt, T_jEq, T_bind, T_bd2, T_wS, T_cO, T_nnS, T_cNullN, T_cNullS, T_bT1, T_bT2, T_ex, T_ite, T_dC, Sum.elim_inl, Sum.elim_inr, X2_kind hC (by omega : inR (aV A 17 p))]
  exact ⟨by omega, by omega, by omega, hC.1, trivial⟩
theorem X1_tenthsOfPlan {r e : Int} (h : RR x o A σ) (g1 : 0 ≤ g) (g2 : g < (aV A 7 0)) (p1 : 0 ≤ p) (p2 : p < (aV A 20 0)) (hp : plG A g p = true) (r0 : 0 ≤ r) (r9 : r ≤ 99) (e0 : 0 ≤ e) (e9 : e ≤ 99) : T (f_X1_tenthsOfPlan σ x (aHa A g) p r e) (fun q => q.1 = max 0 (tenC (aH A g) (aC A (aV A 16 p)) (aV A 17 p) (aV A 18 p) (aV A 19 p) + r - (if eaB A p then e else 0)) ∧ RR x o A q.2) := by
  have n := R_n h
  obtain ⟨pc, pd⟩ := isD_t.mp (R_pl h p1 p2)
  obtain ⟨⟨y1, y2⟩, ⟨m1, m2⟩, d1, d2⟩ := hasC_i pd
  have hr := (goC_t hp).1
  have tb := tenC_b (R_hO h g1 g2) (C := aC A (aV A 16 p)) y1 y2 m1 m2 d1 d2 hr
  have fin : ∀ t : Bool, t = eaB A p → T (f_X1_tenthsOfPlan_j33 x (aHa A g) p r e (bI t) σ) (fun q => q.1 = max 0 (tenC (aH A g) (aC A (aV A 16 p)) (aV A 17 p) (aV A 18 p) (aV A 19 p) + r - (if eaB A p then e else 0)) ∧ RR x o A q.2) := by
    intro t et
    unfold f_X1_tenthsOfPlan_j33 f_X1_tenthsOfPlan_j82
    rw [cO_t (R_x h), Rv16 h, Rv17 h, Rv18 h, Rv19 h, (R_cal h pc.1 pc.2).1]
    simp only [T_ck, T_nnS, T_bd2]
    refine ⟨by omega, by omega, by omega, by omega, by omega, T_mono (X1_tenthsOf h g1 g2 pc.1 pc.2 y1 y2 m1 m2 d1 d2 hr) (fun q ⟨q1, q2⟩ => ?_)⟩
    rw [q1, J3_max (by omega) (by omega), J3_max (by omega) (by omega)]
    simp only [T_cEq, bI_R, true_and, bI_0, Bool.not_eq_false, T_bind, T_some]
    exact ⟨fun z => ⟨by rw [← et, z]; rfl, q2⟩, fun z => ⟨by rw [← et, z]; rfl, q2⟩⟩
  unfold f_X1_tenthsOfPlan f_X1_tenthsOfPlan_j32
  rw [cO_t (R_x h)]
  simp only [T_cLt, T_bind, X1_planKind h p1 p2, T_some]
  have k1 := kindC_R (R_cO h pc.1 pc.2) (aV A 17 p)
  refine ⟨by omega, fun z => ?_, fun z => fin false ?_⟩
  · obtain ⟨qc, qd⟩ := isD_t.mp (R_pl h (by omega : 0 ≤ p - 1) (by omega))
    have k2 := kindC_R (R_cO h qc.1 qc.2) (aV A 17 (p - 1))
    simp only [X1_planKind h (by omega : 0 ≤ p - 1) (by omega : p - 1 < (aV A 20 0)), T_some, T_cEq, T_bind]
    refine ⟨by omega, fun z1 => fin false ?_, fun z1 => ⟨by omega, fun z2 => fin true ?_, fun z2 => fin false ?_⟩⟩
    · unfold eaB; rw [decide_eq_false (fun q => q.2.1 z1)]
    · unfold eaB; rw [decide_eq_true ⟨z, z1, z2⟩]
    · unfold eaB; rw [decide_eq_false (fun q => z2 q.2.2)]
  · unfold eaB; rw [decide_eq_false (fun q => z q.1)]
theorem ruX_s {seed : Int} (p1 : 0 ≤ p) : ruX A g seed (p + 1).toNat = if plG A g p then ruX A g seed p.toNat * 6364136223846793005 + 1442695040888963407 else ruX A g seed p.toNat := by
  rw [show (p + 1).toNat = p.toNat + 1 by omega]
  show (if plG A g (p.toNat : Int) then _ else _) = _
  rw [show ((p.toNat : Nat) : Int) = p by omega]
theorem O_runX {seed j e : Int} (h : RR x o A σ) (hg : inR g) (hj : inR j) (he : inR e) (hi : inR i) : T (f_X1_run σ x g seed j e i) (fun r => r.1 = ruR A g seed j e i ∧ RR x o A r.2) := by
  have n := R_n h
  have main : isH A g = true → isB j 0 99 = true → isB e 0 99 = true → isB i (-1) ((aV A 20 0) - 1) = true → T (f_X1_run_j59 x g seed j e i σ) (fun r => r.1 = ruR A g seed j e i ∧ RR x o A r.2) := by
    intro b1 b2 b3 b4
    have q := isH_t.mp b1
    have jb := isB_t.mp b2
    have eb := isB_t.mp b3
    have ib := isB_t.mp b4
    unfold f_X1_run_j59 ruR
    rw [cO_t (R_x h), (R_head h q.1 q.2).1, b1, b2, b3, b4]
    simp only [T_ck, T_nnS, Bool.and_self, if_true]
    refine ⟨by omega, ?_⟩
    refine T_lp (fun t => (0 ≤ t.2.2.1 ∧ t.2.2.1 ≤ (aV A 20 0)) ∧ t.1 = ruX A g seed t.2.2.1.toNat ∧ t.2.1 = sm (fun p => max 0 (ruV A g seed j e p)) 0 (t.2.2.1 - 0).toNat ∧ (¬ i = -1 → t.2.2.1 ≤ i) ∧ RR x o A t.2.2.2) (fun t => ((aV A 20 0) - t.2.2.1).toNat) ?_ ⟨by dsimp only; omega, rfl, rfl, fun _ => by dsimp only; omega, h⟩
    intro ⟨X, su, p, σ1⟩ ⟨p1, eX, es, ei, h⟩
    dsimp only at p1 eX es ei h
    unfold f_X1_run_b76
    rw [Rv20 h]
    simp only [T_cO, T_cLt]
    refine ⟨R_x h, by omega, fun z => ?_, fun z => ?_⟩
    · obtain ⟨pc, pd⟩ := isD_t.mp (R_pl h p1.1 z)
      obtain ⟨⟨y1, y2⟩, ⟨m1, m2⟩, d1, d2⟩ := hasC_i pd
      have vb := ruV_b (seed := seed) (j := j) (e := e) h q.1 q.2 p1.1 z jb.1 jb.2 eb.1
      have st := sm_at (fun p => max 0 (ruV A g seed j e p)) p1.1
      have fin : ∀ σ2 X' v, RR x o A σ2 → X' = ruX A g seed (p + 1).toNat → v = ruV A g seed j e p → T (f_X1_run_j159 x j e i (aHa A g) X' su p v σ2) (Sum.elim (fun s' => ((0 ≤ s'.2.2.1 ∧ s'.2.2.1 ≤ (aV A 20 0)) ∧ s'.1 = ruX A g seed s'.2.2.1.toNat ∧ s'.2.1 = sm (fun p => max 0 (ruV A g seed j e p)) 0 (s'.2.2.1 - 0).toNat ∧ (¬ i = -1 → s'.2.2.1 ≤ i) ∧ RR x o A s'.2.2.2) ∧ ((aV A 20 0) - s'.2.2.1).toNat < ((aV A 20 0) - p).toNat) (fun r => r.1 = (if i = -1 then sm (fun p => max 0 (ruV A g seed j e p)) 0 ((aV A 20 0)).toNat else ruV A g seed j e i) ∧ RR x o A r.2)) := by
        intro σ2 X' v h2 eX' ev
        unfold f_X1_run_j159
        rw [ev, J3_max (by omega) (by omega)]
        simp only [T_some, T_none, T_ck, T_cLt, T_cEq, T_jLt, T_jEq, T_bind, T_bd2, T_wS, T_cO, T_nnS, T_cNullN, T_cNullS, T_bT1, T_bT2, T_ex, T_ite, T_dC, Sum.elim_inl, Sum.elim_inr]
        refine ⟨by omega, fun w => ⟨?_, h2⟩, fun w => ⟨⟨by omega, eX', ?_, fun _ => by omega, h2⟩, by omega⟩⟩
        · rw [if_neg (by omega), ← w]
        · rw [st, es]
      rw [Rv16 h, Rv17 h, Rv18 h, (R_cal h pc.1 pc.2).1]
      simp only [T_ck, T_nnS, T_bd2]
      refine ⟨by omega, by omega, by omega, by omega, T_mono (X1_hasWay h q.1 q.2 pc.1 pc.2 y1 y2 m1 m2) (fun r ⟨e1, h1⟩ => ?_)⟩
      rw [e1]
      simp only [T_cEq, bI_R, true_and, bI_0, Bool.not_eq_false]
      refine ⟨fun w => fin r.2 X (-1) h1 ?_ ?_, fun w => ?_⟩
      · rw [ruX_s p1.1, eX]; unfold plG; rw [w]; rfl
      · unfold ruV plG; rw [w]; rfl
      · have rb := tj_b (v := X * 6364136223846793005 + 1442695040888963407) jb.1 jb.2
        have jb' := ju33 (X * 6364136223846793005 + 1442695040888963407)
        simp only [T_ck, T_cO, T_bd2]
        refine ⟨by omega, ⟨by omega, by omega, by omega⟩, R_x h1, T_mono (X1_tenthsOfPlan h1 q.1 q.2 p1.1 z w rb.1 rb.2 eb.1 eb.2) (fun r2 ⟨e2, h2⟩ => ?_)⟩
        refine fin r2.2 _ _ h2 ?_ ?_
        · rw [ruX_s p1.1, eX]; unfold plG; rw [w]; rfl
        · rw [e2, eX]; unfold ruV plG; rw [w]; rfl
    · simp only [T_some, T_none, T_ck, T_cLt, T_cEq, T_jLt, T_jEq, T_bind, T_bd2, T_wS, T_cO, T_nnS, T_cNullN, T_cNullS, T_bT1, T_bT2, T_ex, T_ite, T_dC, Sum.elim_inl, Sum.elim_inr]
      refine ⟨?_, h⟩
      have i1 : i = -1 := by
        by_cases c : i = -1
        · exact c
        · have := ei c; omega
      rw [if_pos i1, es]; congr 1; omega
  unfold f_X1_run
  rw [cO_t (R_x h), Rv20 h]
  simp only [T_bind, T_some, T_cEq, bI_R, true_and, bI_0, Bool.not_eq_false, X1_isHead h hg, T_ck, X1_isB (by omega : inL j) (by omega : inL 0) (by omega : inL 99), X1_isB (by omega : inL e) (by omega : inL 0) (by omega : inL 99), X1_isB (by omega : inL i) (by omega : inL 0) (by omega : inL ((aV A 20 0) - 1))]
  refine ⟨fun e1 => ⟨by unfold ruR; rw [e1]; rfl, h⟩, fun e1 => ⟨hj, fun e2 => ⟨by unfold ruR; rw [e2]; simp, h⟩, fun e2 => ⟨he, fun e3 => ⟨by unfold ruR; rw [e3]; simp, h⟩, fun e3 => ⟨by omega, fun z => main e1 e2 e3 ?_, fun z => ⟨hi, by omega, fun e4 => ⟨?_, h⟩, fun e4 => main e1 e2 e3 ?_⟩⟩⟩⟩⟩
  · rw [isB_t]; omega
  · have := isB_f.mp e4
    unfold ruR; rw [isB_f.mpr (by omega : ¬ (-1 ≤ i ∧ i ≤ (aV A 20 0) - 1))]; simp
  · have := isB_t.mp e4
    rw [isB_t]; omega
theorem X6_isEased (h : RR x o A σ) (p1 : 0 ≤ p) (p2 : p < (aV A 20 0)) : f_X6_isEased σ o p = some (bI (eaB A p)) := by
  have n := R_n h
  obtain ⟨pc, pd⟩ := isD_t.mp (R_pl h p1 p2)
  obtain ⟨⟨y1, y2⟩, _⟩ := hasC_i pd
  obtain ⟨w1, w2, _⟩ := R_pm h p1 p2
  have k1 := kindC_R (R_cO h pc.1 pc.2) (aV A 17 p)
  unfold f_X6_isEased
  rw [cO_t (R_o h), w1, w2, X6_kindO h pc (by omega)]
  refine T_eq.mp ?_
  simp only [T_cEq, T_some, T_ck, T_bind]
  refine ⟨by omega, fun z => ?_, fun z => ⟨by omega, by omega, by omega, fun z1 => ?_, fun z1 => ⟨by omega, by omega, ?_⟩⟩⟩
  · unfold eaB; rw [decide_eq_false (fun q => by omega)]; rfl
  · unfold eaB; rw [decide_eq_false (fun q => q.2.1 z1)]; rfl
  · obtain ⟨qc, qd⟩ := isD_t.mp (R_pl h (by omega : 0 ≤ p - 1) (by omega))
    obtain ⟨⟨y3, y4⟩, _⟩ := hasC_i qd
    obtain ⟨w3, w4, _⟩ := R_pm h (by omega : 0 ≤ p - 1) (by omega)
    have k2 := kindC_R (R_cO h qc.1 qc.2) (aV A 17 (p - 1))
    rw [w3, w4, X6_kindO h qc (by omega)]
    simp only [T_some, T_cEq]
    refine ⟨by omega, fun z2 => ?_, fun z2 => ?_⟩
    · unfold eaB; rw [decide_eq_true ⟨by omega, z1, z2⟩]; rfl
    · unfold eaB; rw [decide_eq_false (fun q => z2 q.2.2)]; rfl
theorem O_runM {seed j e : Int} (h : RR x o A σ) (hg : inR g) (hj : inR j) (he : inR e) (hi : inR i) : T (f_X6_run σ o g seed j e i) (fun r => r.1 = ruR A g seed j e i ∧ RR x o A r.2) := by
  have n := R_n h
  unfold f_X6_run ruR
  rw [cO_t (R_o h), R_np h]
  simp only [T_bind, T_some, T_cEq, bI_R, true_and, bI_0, Bool.not_eq_false, X6_isHead h hg, X6_isB hj (by omega : inR 0) (by omega : inR 99), X6_isB he (by omega : inR 0) (by omega : inR 99), X6_isB hi (by omega : inR (-1)) (by omega : inR ((aV A 20 0) - 1))]
  refine ⟨fun e1 => ⟨by rw [e1]; rfl, h⟩, fun e1 => ⟨fun e2 => ⟨by rw [e2]; simp, h⟩, fun e2 => ⟨fun e3 => ⟨by rw [e3]; simp, h⟩, fun e3 => ⟨fun e4 => ⟨by rw [e4]; simp, h⟩, fun e4 => ?_⟩⟩⟩⟩
  have q := isH_t.mp e1
  have jb := isB_t.mp e2
  have eb := isB_t.mp e3
  have ib := isB_t.mp e4
  rw [e1, e2, e3, e4]
  simp only [Bool.and_self, if_true, T_wS]
  refine T_lp (fun t => (0 ≤ t.2.2.1 ∧ t.2.2.1 ≤ (aV A 20 0)) ∧ gJ t.2.2.2 o 70 0 = ruX A g seed t.2.2.1.toNat ∧ t.1 = sm (fun p => max 0 (ruV A g seed j e p)) 0 (t.2.2.1 - 0).toNat ∧ (0 ≤ i → i < t.2.2.1 → t.2.1 = ruV A g seed j e i) ∧ RR x o A t.2.2.2) (fun t => ((aV A 20 0) - t.2.2.1).toNat) ?_ ⟨by dsimp only; omega, by simp only [gI_sI, gI_sJ, gI_sP, gI_cpI, gJ_sI, gJ_sJ, gJ_sP, gJ_cpI, gP_sI, gP_sJ, gP_sP, gP_cpI, cL_sI, cL_sJ, cL_sP, cL_cpI, aR_sI, aR_sJ, aR_sP, aR_cpI, nX_sI, nX_sJ, nX_sP, nX_cpI, oc_sIe, oc_sJe, oc_sPe, oc_cpIe]; simp; rfl, rfl, fun _ q => by dsimp only at q; omega, RR_sc h (Fr_sJ ⟨rfl, by omega⟩)⟩
  intro ⟨su, its, p, σ1⟩ ⟨p1, eX, es, ei, h⟩
  dsimp only at p1 eX es ei h
  unfold f_X6_run_b61
  rw [R_np h]
  simp only [T_cO, T_cLt]
  refine ⟨R_o h, by omega, fun z => ?_, fun z => ?_⟩
  · obtain ⟨pc, pd⟩ := isD_t.mp (R_pl h p1.1 z)
    obtain ⟨⟨y1, y2⟩, ⟨m1, m2⟩, d1, d2⟩ := hasC_i pd
    obtain ⟨w1, w2, w3, w4⟩ := R_pm h p1.1 z
    have vb := ruV_b (seed := seed) (j := j) (e := e) h q.1 q.2 p1.1 z jb.1 jb.2 eb.1
    have st := sm_at (fun p => max 0 (ruV A g seed j e p)) p1.1
    have fin : ∀ σ2 su' v, RR x o A σ2 → gJ σ2 o 70 0 = ruX A g seed (p + 1).toNat → v = ruV A g seed j e p → su' = su + max 0 (ruV A g seed j e p) → T (f_X6_run_j156 o g j e i su' its p v σ2) (Sum.elim (fun s' => ((0 ≤ s'.2.2.1 ∧ s'.2.2.1 ≤ (aV A 20 0)) ∧ gJ s'.2.2.2 o 70 0 = ruX A g seed s'.2.2.1.toNat ∧ s'.1 = sm (fun p => max 0 (ruV A g seed j e p)) 0 (s'.2.2.1 - 0).toNat ∧ (0 ≤ i → i < s'.2.2.1 → s'.2.1 = ruV A g seed j e i) ∧ RR x o A s'.2.2.2) ∧ ((aV A 20 0) - s'.2.2.1).toNat < ((aV A 20 0) - p).toNat) (fun r => r.1 = (if i = -1 then sm (fun p => max 0 (ruV A g seed j e p)) 0 ((aV A 20 0)).toNat else ruV A g seed j e i) ∧ RR x o A r.2)) := by
      intro σ2 su' v h2 eX' ev esu
      unfold f_X6_run_j156
      simp only [T_some, T_none, T_ck, T_cLt, T_cEq, T_jLt, T_jEq, T_bind, T_bd2, T_wS, T_cO, T_nnS, T_cNullN, T_cNullS, T_bT1, T_bT2, T_ex, T_ite, T_dC, Sum.elim_inl, Sum.elim_inr]
      refine ⟨by omega, fun w => ⟨⟨by omega, eX', ?_, fun _ _ => ?_, h2⟩, by omega⟩, fun w => ⟨⟨by omega, eX', ?_, fun q1 q2 => ?_, h2⟩, by omega⟩⟩
      · rw [st, esu, es]
      · rw [ev, w]
      · rw [st, esu, es]
      · exact ei q1 (by omega)
    rw [w1, w2, w3, w4]
    simp only [T_ck, T_bd2]
    refine ⟨by omega, by omega, by omega, by omega, T_mono (X6_answerW h q.1 q.2 pc.1 pc.2 y1 y2 m1 m2 d1 d2) (fun r ⟨e5, f5, va, _⟩ => ?_)⟩
    have h5 := RR_sc h (Fr_m f5 anW_sc)
    rw [e5]
    simp only [T_cEq, bI_R, true_and, bI_0, Bool.not_eq_false]
    have j70 : gJ r.2 o 70 0 = ruX A g seed p.toNat := by rw [Fr_J f5 (fun q => by have := q.2; omega)]; exact eX
    refine ⟨fun w => fin r.2 su (-1) h5 ?_ ?_ ?_, fun w => ?_⟩
    · rw [ruX_s p1.1, j70]; unfold plG; rw [w]; rfl
    · unfold ruV plG; rw [w]; rfl
    · unfold ruV plG; rw [w]; show su = su + max 0 (-1); omega
    · obtain ⟨v1, v2⟩ := va w
      have tb := tenC_b (R_hO h q.1 q.2) (C := aC A (aV A 16 p)) y1 y2 m1 m2 d1 d2 (goC_t w).1
      have rb := tj_b (v := ruX A g seed p.toNat * 6364136223846793005 + 1442695040888963407) jb.1 jb.2
      have jb' := ju33 (ruX A g seed p.toNat * 6364136223846793005 + 1442695040888963407)
      unfold f_X6_draw
      rw [j70, v2]
      simp only [T_cO, T_bd2, T_wS, T_ck, T_some]
      have gj : gJ (sJ r.2 o 70 0 (ruX A g seed p.toNat * 6364136223846793005 + 1442695040888963407)) o 70 0 = ruX A g seed p.toNat * 6364136223846793005 + 1442695040888963407 := by simp only [gI_sI, gI_sJ, gI_sP, gI_cpI, gJ_sI, gJ_sJ, gJ_sP, gJ_cpI, gP_sI, gP_sJ, gP_sP, gP_cpI, cL_sI, cL_sJ, cL_sP, cL_cpI, aR_sI, aR_sJ, aR_sP, aR_cpI, nX_sI, nX_sJ, nX_sP, nX_cpI, oc_sIe, oc_sJe, oc_sPe, oc_cpIe]; simp
      have h6 := RR_sc h5 (Fr_sJ (W := scW o) (σ := r.2) (a := o) (k := 70) (i := 0) (v := ruX A g seed p.toNat * 6364136223846793005 + 1442695040888963407) ⟨rfl, by omega⟩)
      rw [gj]
      refine ⟨R_o h5, R_o h5, by omega, ⟨by omega, by omega, by omega⟩, R_o h6, ?_⟩
      rw [X6_isEased h6 p1.1 z]
      simp only [T_bind, T_some, T_cEq, bI_R, true_and, bI_0, Bool.not_eq_false]
      unfold f_X6_run_j147
      have ex' : gJ (sJ r.2 o 70 0 (ruX A g seed p.toNat * 6364136223846793005 + 1442695040888963407)) o 70 0 = ruX A g seed (p + 1).toNat := by rw [gj, ruX_s p1.1]; unfold plG; rw [w]; rfl
      refine ⟨fun z1 => fin _ _ _ h6 ex' ?_ ?_, fun z1 => ?_⟩
      · unfold ruV plG; rw [w, z1]; simp; omega
      · unfold ruV plG; rw [w, z1]; simp; omega
      · rw [J3_max (by omega) (by omega)]
        simp only [T_some]
        refine fin _ _ _ h6 ex' ?_ ?_
        · unfold ruV plG; rw [w, z1]; simp
        · unfold ruV plG; rw [w, z1]; simp
  · simp only [T_some, T_none, T_ck, T_cLt, T_cEq, T_jLt, T_jEq, T_bind, T_bd2, T_wS, T_cO, T_nnS, T_cNullN, T_cNullS, T_bT1, T_bT2, T_ex, T_ite, T_dC, Sum.elim_inl, Sum.elim_inr]
    refine ⟨by omega, fun w => ⟨?_, h⟩, fun w => ⟨?_, h⟩⟩
    · rw [if_pos w, es]; congr 1; omega
    · rw [if_neg w]; exact ei (by omega) (by omega)
theorem ruR_R {seed j e : Int} (h : RR x o A σ) : inR (ruR A g seed j e i) := by
  have n := R_n h
  unfold ruR
  split
  · rename_i z
    have z1 := Bool.and_eq_true_iff.mp z
    have z2 := Bool.and_eq_true_iff.mp z1.2
    have z3 := Bool.and_eq_true_iff.mp z2.2
    have q := isH_t.mp z1.1
    have jb := isB_t.mp z2.1
    have eb := isB_t.mp z3.1
    have ib := isB_t.mp z3.2
    split
    · have s0 := sm_0 (g := fun p => max 0 (ruV A g seed j e p)) (lo := 0) (n := ((aV A 20 0)).toNat) (fun k _ _ => by omega)
      have cg := sm_cg (fun p => max 0 (ruV A g seed j e p)) (fun p => if 0 ≤ p ∧ p < (aV A 20 0) then max 0 (ruV A g seed j e p) else 0) 0 ((aV A 20 0)).toNat (fun k k1 k2 => by show _ = (if 0 ≤ k ∧ k < (aV A 20 0) then max 0 (ruV A g seed j e k) else 0); rw [if_pos (by omega)])
      have s1 := sm_u (fun p => if 0 ≤ p ∧ p < (aV A 20 0) then max 0 (ruV A g seed j e p) else 0) 0 3000000 (fun k => by
        show (if 0 ≤ k ∧ k < (aV A 20 0) then max 0 (ruV A g seed j e k) else 0) ≤ 3000000
        split
        · rename_i w; have := ruV_b (seed := seed) (j := j) (e := e) h q.1 q.2 w.1 w.2 jb.1 jb.2 eb.1; omega
        · omega) ((aV A 20 0)).toNat
      rw [← cg] at s1
      constructor <;> omega
    · rename_i w
      have := ruV_b (seed := seed) (j := j) (e := e) h q.1 q.2 (p := i) (by omega) (by omega) jb.1 jb.2 eb.1
      constructor <;> omega
  · omega
end
