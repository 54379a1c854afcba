/-! rises, lacks, holds -/
set_option maxRecDepth 100000
def isYs (f t : Int) : Bool := isB f 1 9999 && isB t f 9999
theorem isYs_t {f t : Int} : isYs f t = true ↔ (1 ≤ f ∧ f ≤ 9999) ∧ f ≤ t ∧ t ≤ 9999 := by unfold isYs; rw [Bool.and_eq_true_iff, isB_t, isB_t]
section
variable {σ : St} {x o a b : Nat} {A : AS} {g g' c y m d v k s p f t w : Int} {C C' : Cal}
theorem X1_areYears (hf : inR f) (ht : inR t) : f_X1_areYears σ f t = some (bI (isYs f t)) := by
  unfold f_X1_areYears isYs
  rw [X1_isYear hf, X1_isB (by omega) (by omega) (by omega)]
  refine T_eq.mp ?_
  simp only [T_bind, T_some, T_cEq, bI_R, true_and, bI_0, Bool.not_eq_false, T_ck]
  exact ⟨fun e => by rw [e]; rfl, fun e => ⟨ht, hf, fun e1 => by rw [e1]; simp [bI], fun e1 => by rw [e, e1]; rfl⟩⟩
theorem X6_areYears (hf : inR f) (ht : inR t) : f_X6_areYears σ o f t = some (bI (isYs f t)) := by
  unfold f_X6_areYears isYs
  rw [X6_isB hf (by omega) (by omega), X6_isB ht hf (by omega)]
  refine T_eq.mp ?_
  simp only [T_bind, T_some, T_cEq, bI_R, true_and, bI_0, Bool.not_eq_false, T_ck]
  exact ⟨fun e => by rw [e]; rfl, fun e => ⟨fun e1 => by rw [e1]; simp [bI], fun e1 => by rw [e, e1]; rfl⟩⟩
theorem R_hm (h : RR x o A σ) (g1 : 0 ≤ g) (g2 : g < (aV A 7 0)) : HeadM σ o g (aH A g) := (h.2.2.2.2.2.2.1 g g1 g2).1
theorem X6_costOf (h : RR x o A σ) (g1 : 0 ≤ g) (g2 : g < (aV A 7 0)) (y1 : 1 ≤ y) (y2 : y ≤ 9999) (hf : hL (aH A g) y < 1000000000000) : f_X6_costOf σ o g y = some (hL (aH A g) y / 20000) := by
  have n := R_n h
  have hO := R_hO h g1 g2
  have vy := (hO.2.2.1 y y1 y2).1
  have tb := tr_b vy
  unfold f_X6_costOf
  rw [cO_t (R_o h), ck_t (by omega), (R_hm h g1 g2).2.2.2.2.2.2.1 y y1 y2, ck_t (by omega), tr_c vy hf]
theorem co_b (h : RR x o A σ) (g1 : 0 ≤ g) (g2 : g < (aV A 7 0)) (y1 : 1 ≤ y) (y2 : y ≤ 9999) (hf : hL (aH A g) y < 1000000000000) : 0 ≤ hL (aH A g) y / 20000 ∧ hL (aH A g) y / 20000 ≤ 989901 := by
  have vy := ((R_hO h g1 g2).2.2.1 y y1 y2).1
  unfold vOK at vy; omega
def riV (A : AS) (g g' y : Int) : Int := if hL (aH A g) y < 1000000000000 ∧ hL (aH A g') y < 1000000000000 then sgn (hL (aH A g) y / 20000) (hL (aH A g') y / 20000) else 0
theorem sgn_b {p q : Int} : -1 ≤ sgn p q ∧ sgn p q ≤ 1 := by unfold sgn; split <;> (try split) <;> omega
theorem riV_b : -1 ≤ riV A g g' y ∧ riV A g g' y ≤ 1 := by
  unfold riV
  split
  · exact sgn_b
  · omega
theorem E_rises (h : RR x o A σ) (hg : inR g) (hg' : inR g') (hf : inR f) (ht : inR t) : T (f_X1_rises σ x g g' f t) (fun r => f_X6_rises σ o g g' f t = some r ∧ inR r) := by
  have n := R_n h
  unfold f_X1_rises f_X6_rises
  rw [cO_t (R_x h), cO_t (R_o h), X6_isHead h hg, X6_isHead h hg', X6_areYears hf ht]
  simp only [T_bind, T_some, T_cEq, bI_R, true_and, bI_0, Bool.not_eq_false, X1_isHead h hg, X1_isHead h hg', X1_areYears hf ht, bd_s, T_ck]
  refine ⟨fun e => ⟨by rw [e, cEq_bf], by omega⟩, fun e => ⟨fun e1 => ⟨by rw [e, e1, cEq_bt, cEq_bf], by omega⟩, fun e1 => ⟨fun e2 => ⟨by rw [e, e1, e2, cEq_bt, cEq_bt, cEq_bf], by omega⟩, fun e2 => ?_⟩⟩⟩
  have q := isH_t.mp e
  have q' := isH_t.mp e1
  have yb := isYs_t.mp e2
  obtain ⟨p1, p2, _⟩ := R_head h q.1 q.2
  obtain ⟨p3, p4, _⟩ := R_head h q'.1 q'.2
  have hO := R_hO h q.1 q.2
  have hO' := R_hO h q'.1 q'.2
  rw [e, e1, e2, cEq_bt, cEq_bt, cEq_bt, p1, p3]
  simp only [T_nnS, T_ck]
  refine ⟨by omega, by omega, ?_⟩
  refine T_lp2 (fun s => (1 ≤ s.2 ∧ s.2 ≤ t + 1) ∧ (- s.2 ≤ s.1 ∧ s.1 ≤ s.2)) (fun s => (t + 1 - s.2).toNat) ?_ ⟨by dsimp only; omega, by dsimp only; omega⟩
  intro ⟨v, y⟩ ⟨y1, v1⟩
  dsimp only at y1 v1
  by_cases c : y ≤ t
  · have ly := v_L hO (y := y) (by omega) (by omega)
    have ly' := v_L hO' (y := y) (by omega) (by omega)
    have vy := (hO.2.2.1 y (by omega) (by omega)).1
    have vy' := (hO'.2.2.1 y (by omega) (by omega)).1
    have fx : f_X1_rises_b51 σ t (aHa A g) (aHa A g') v y = some (.inl (v + riV A g g' y, y + 1)) := by
      unfold f_X1_rises_b51
      rw [p2.2.2.2.2.2.1 y (by omega) (by omega), p4.2.2.2.2.2.1 y (by omega) (by omega), v_c vy, v_c vy', J6_compare (by omega) (by omega)]
      refine T_eq.mp ?_
      simp only [T_some, T_none, T_ck, T_cLt, T_cEq, T_jLt, T_jEq, T_bind, T_bd2, T_wS, T_cO, T_nnS, T_cNullN, T_cNullS, T_bT1, T_bT2, T_ex, T_ite, T_dC, Sum.elim_inl, Sum.elim_inr]
      unfold riV
      refine ⟨by omega, fun z => by omega, fun z => ⟨p2.1, by omega, by omega, fun z1 => ⟨p4.1, by omega, by omega, fun z2 => ⟨by omega, by omega, by omega, by omega, ?_⟩, fun z2 => ?_⟩, fun z1 => ?_⟩⟩
      · rw [if_pos ⟨z1, z2⟩]
      · rw [if_neg (fun w => z2 w.2)]
      · rw [if_neg (fun w => z1 w.1)]
    have fm : f_X6_rises_b36 σ o g g' t v y = some (.inl (v + riV A g g' y, y + 1)) := by
      have tb := tr_b vy
      have tb' := tr_b vy'
      have f1 := tr_far vy
      have f2 := tr_far vy'
      unfold f_X6_rises_b36 f_X6_rises_j87 f_X6_rises_j88
      rw [(R_hm h q.1 q.2).2.2.2.2.2.2.1 y (by omega) (by omega), (R_hm h q'.1 q'.2).2.2.2.2.2.2.1 y (by omega) (by omega)]
      refine T_eq.mp ?_
      simp only [T_cLt, T_ex, T_some, T_ck, T_jLt, T_cEq]
      unfold riV
      refine ⟨by omega, fun z => by omega, fun z => ⟨by omega, by omega, fun z1 => ⟨by omega, by omega, fun z2 => ⟨by omega, fun w => by omega, fun _ => ?_⟩, fun z2 => ⟨by omega, fun _ => ?_, fun w => absurd trivial w⟩⟩, fun z1 => ⟨by omega, fun _ => ?_, fun w => absurd trivial w⟩⟩⟩
      · have b1 := co_b h q.1 q.2 (y := y) (by omega) (by omega) (f1.mp z1)
        have b2 := co_b h q'.1 q'.2 (y := y) (by omega) (by omega) (f2.mp z2)
        rw [X6_costOf h q.1 q.2 (by omega) (by omega) (f1.mp z1), X6_costOf h q'.1 q'.2 (by omega) (by omega) (f2.mp z2)]
        simp only [T_bind, T_some, J5_compare (σ := σ) (by omega : inR (hL (aH A g) y / 20000)) (by omega : inR (hL (aH A g') y / 20000))]
        rw [if_pos ⟨f1.mp z1, f2.mp z2⟩]
      · rw [if_neg (fun w => z2 (f2.mpr w.2))]
      · rw [if_neg (fun w => z1 (f1.mpr w.1))]
    have rb := riV_b (A := A) (g := g) (g' := g') (y := y)
    rw [fx, fm]
    refine ⟨rfl, ?_⟩
    simp only [T_some, Sum.elim_inl]
    omega
  · unfold f_X1_rises_b51 f_X6_rises_b36
    rw [cLt_t (by omega) (by omega) (by omega), cLt_t (by omega) (by omega) (by omega)]
    refine ⟨rfl, ?_⟩
    simp only [T_some, T_none, T_ck, T_cLt, T_cEq, T_jLt, T_jEq, T_bind, T_bd2, T_wS, T_cO, T_nnS, T_cNullN, T_cNullS, T_bT1, T_bT2, T_ex, T_ite, T_dC, Sum.elim_inl, Sum.elim_inr]
    omega
/-- lacks: one turn -/
def lkS (H : Hea) (q : Int × Int × Int) : Int × Int × Int := if hL H q.2.2 < 1000000000000 then (if q.2.1 = -1 ∨ hL H q.2.1 / 20000 < hL H q.2.2 / 20000 then (q.1, q.2.2, q.2.2 + 1) else (q.1, q.2.1, q.2.2 + 1)) else (q.1 + 1, q.2.1, q.2.2 + 1)
theorem E_lacks (h : RR x o A σ) (hg : inR g) (hf : inR f) (ht : inR t) (hw : inR w) : T (f_X1_lacks σ x g f t w) (fun r => f_X6_lacks σ o g f t w = some r ∧ inR r) := by
  have n := R_n h
  unfold f_X1_lacks f_X6_lacks
  rw [cO_t (R_x h), cO_t (R_o h), X6_isHead h hg, X6_areYears hf ht, X6_isB hw (by omega) (by omega)]
  simp only [T_bind, T_some, T_cEq, bI_R, true_and, bI_0, Bool.not_eq_false, X1_isHead h hg, X1_areYears hf ht, bd_s, T_ck, T_cLt, X1_isB (by omega : inL w) (by omega : inL 0) (by omega : inL 3)]
  refine ⟨fun e => ⟨by rw [e, cEq_bf], by omega⟩, fun e => ⟨hw, fun e1 => ⟨by rw [e, e1, cEq_bt, cEq_bf], by omega⟩, fun e1 => ?_⟩⟩
  have q := isH_t.mp e
  have wb := isB_t.mp e1
  obtain ⟨p1, p2, _⟩ := R_head h q.1 q.2
  have hO := R_hO h q.1 q.2
  have hM' := R_hm h q.1 q.2
  rw [e, e1, cEq_bt, cEq_bt]
  refine ⟨by omega, fun z => ⟨fun e2 => ⟨by rw [cEq_f hw (by omega) (by omega), e2, cEq_bf], by omega⟩, fun e2 => ?_⟩, fun z => ?_⟩
  · have yb := isYs_t.mp e2
    rw [cEq_f hw (by omega) (by omega), e2, cEq_bt]
    unfold f_X1_lacks_j37 f_X6_yearsLack
    rw [cO_t (R_o h), p1, ck_t (by omega)]
    simp only [T_nnS]
    rw [cEq_f hw (by omega) (by omega)]
    have bnd : ∀ r : Option Int, r.bind (fun z => some z) = r := by intro r; cases r <;> rfl
    rw [bnd]
    refine T_lp2 (fun s => (1 ≤ s.2.2 ∧ s.2.2 ≤ t + 1) ∧ (0 ≤ s.1 ∧ s.1 ≤ s.2.2) ∧ (s.2.1 = -1 ∨ ((1 ≤ s.2.1 ∧ s.2.1 ≤ 9999) ∧ hL (aH A g) s.2.1 < 1000000000000))) (fun s => (t + 1 - s.2.2).toNat) ?_ ⟨by dsimp only; omega, by dsimp only; omega, Or.inl rfl⟩
    intro ⟨ga, de, y⟩ ⟨y1, g1, d1⟩
    dsimp only at y1 g1 d1
    by_cases c : y ≤ t
    · have ly := v_L hO (y := y) (by omega) (by omega)
      have vy := (hO.2.2.1 y (by omega) (by omega)).1
      have tb := tr_b vy
      have f1 := tr_far vy
      have fx : f_X1_lacks_b66 σ t w (aHa A g) ga de y = some (.inl (lkS (aH A g) (ga, de, y))) := by
        unfold f_X1_lacks_b66
        rw [p2.2.2.2.2.2.1 y (by omega) (by omega), v_c vy]
        refine T_eq.mp ?_
        simp only [T_cLt, T_cO, T_ck, T_jLt, T_cEq, T_some]
        unfold lkS
        dsimp only
        refine ⟨by omega, fun z => by omega, fun z => ⟨p2.1, by omega, by omega, fun z1 => ⟨by omega, fun z2 => ?_, fun z2 => ?_⟩, fun z1 => ?_⟩⟩
        · rw [if_pos z1, if_pos (Or.inl z2)]
        · obtain ⟨db, df⟩ : (1 ≤ de ∧ de ≤ 9999) ∧ hL (aH A g) de < 1000000000000 := by
            rcases d1 with d1 | d1
            · omega
            · exact d1
          have ld := v_L hO db.1 db.2
          have vd := (hO.2.2.1 de db.1 db.2).1
          rw [p2.2.2.2.2.2.1 de db.1 db.2, v_c vd]
          refine ⟨by omega, by omega, by omega, by omega, by omega, fun z3 => ?_, fun z3 => ?_⟩
          · rw [if_pos z1, if_pos (Or.inr z3)]
          · rw [if_pos z1, if_neg (by omega)]
        · rw [if_neg z1]
      have fm : f_X6_yearsLack_b9 σ o g t w ga de y = some (.inl (lkS (aH A g) (ga, de, y))) := by
        unfold f_X6_yearsLack_b9
        rw [hM'.2.2.2.2.2.2.1 y (by omega) (by omega)]
        refine T_eq.mp ?_
        simp only [T_cLt, T_ck, T_jLt, T_cEq, T_some, T_bind]
        unfold lkS
        dsimp only
        refine ⟨by omega, fun z => by omega, fun z => ⟨by omega, by omega, fun z1 => ⟨by omega, fun z2 => ?_, fun z2 => ?_⟩, fun z1 => ?_⟩⟩
        · rw [if_pos (f1.mp z1), if_pos (Or.inl z2)]
        · obtain ⟨db, df⟩ : (1 ≤ de ∧ de ≤ 9999) ∧ hL (aH A g) de < 1000000000000 := by
            rcases d1 with d1 | d1
            · omega
            · exact d1
          have b1 := co_b h q.1 q.2 (y := y) (by omega) (by omega) (f1.mp z1)
          have b2 := co_b h q.1 q.2 db.1 db.2 df
          simp only [X6_costOf h q.1 q.2 (by omega : 1 ≤ y) (by omega) (f1.mp z1), X6_costOf h q.1 q.2 db.1 db.2 df, T_some, T_cLt]
          refine ⟨by omega, fun z3 => ?_, fun z3 => ?_⟩
          · rw [if_pos (f1.mp z1), if_pos (Or.inr z3)]
          · rw [if_pos (f1.mp z1), if_neg (by omega)]
        · rw [if_neg (fun w => z1 (f1.mpr w))]
      rw [fx, fm]
      refine ⟨rfl, ?_⟩
      simp only [T_some, Sum.elim_inl]
      unfold lkS
      dsimp only
      split
      · rename_i z1
        split
        · exact ⟨⟨by dsimp only; omega, by dsimp only; omega, Or.inr ⟨by dsimp only; omega, z1⟩⟩, by dsimp only; omega⟩
        · exact ⟨⟨by dsimp only; omega, by dsimp only; omega, d1⟩, by dsimp only; omega⟩
      · exact ⟨⟨by dsimp only; omega, by dsimp only; omega, d1⟩, by dsimp only; omega⟩
    · dsimp only
      unfold f_X1_lacks_b66 f_X6_yearsLack_b9
      rw [cLt_t (by omega) (by omega) (by omega), cLt_t (by omega) (by omega) (by omega)]
      have key : T (cEq w 0 (some ga) (cEq w 1 (some de) (cEq de (-1) (some de) (cO σ (aHa A g) 4 (ck (0 ≤ de ∧ de < 10000) (ck (inL (gJ σ (aHa A g) 9 de)) (some (Int.tdiv (gJ σ (aHa A g) 9 de) 20000)))))))) (fun r => cEq w 0 (some ga) (cEq w 1 (some de) (cEq de (-1) (some de) ((f_X6_costOf σ o g de).bind fun r6 => some r6))) = some r ∧ inR r) := by
        simp only [T_cEq, T_some]
        have dr : inR de := by rcases d1 with d1 | d1 <;> omega
        refine ⟨by omega, fun w0 => ⟨by rw [cEq_t hw (by omega) w0], by omega⟩, fun w0 => ⟨by omega, fun w1 => ⟨by rw [cEq_f hw (by omega) w0, cEq_t hw (by omega) w1], dr⟩, fun w1 => ⟨by omega, fun w2 => ⟨by rw [cEq_f hw (by omega) w0, cEq_f hw (by omega) w1, cEq_t dr (by omega) w2], dr⟩, fun w2 => ?_⟩⟩⟩
        obtain ⟨db, df⟩ : (1 ≤ de ∧ de ≤ 9999) ∧ hL (aH A g) de < 1000000000000 := by
          rcases d1 with d1 | d1
          · omega
          · exact d1
        have ld := v_L hO db.1 db.2
        have vd := (hO.2.2.1 de db.1 db.2).1
        have b2 := co_b h q.1 q.2 db.1 db.2 df
        rw [p2.2.2.2.2.2.1 de db.1 db.2, v_c vd]
        simp only [T_cO, T_ck, T_some]
        refine ⟨p2.1, by omega, by omega, ?_, by omega⟩
        rw [cEq_f hw (by omega) w0, cEq_f hw (by omega) w1, cEq_f dr (by omega) w2, X6_costOf h q.1 q.2 db.1 db.2 df]; rfl
      obtain ⟨r, e3, e4, e5⟩ := key
      rw [e3, e4]
      refine ⟨rfl, ?_⟩
      simp only [T_ex, T_some, Sum.elim_inr]
      exact e5
  · have w3 : w = 3 := by omega
    rw [cEq_t hw (by omega) w3]
    unfold f_X1_lacks_j37
    rw [p1, ck_t (by omega)]
    simp only [T_nnS]
    rw [cEq_t hw (by omega) w3]
    unfold f_X1_lackingMonths
    have bnd : ∀ r : Option Int, r.bind (fun z => some z) = r := by intro r; cases r <;> rfl
    rw [bnd]
    refine T_lp2 (fun s => inR s.1 ∧ (1 ≤ s.2 ∧ s.2 ≤ 13)) (fun s => (13 - s.2).toNat) ?_ ⟨by dsimp only; omega, by dsimp only; omega⟩
    intro ⟨v, m⟩ ⟨v1, m1⟩
    dsimp only at v1 m1
    unfold f_X1_lackingMonths_b4 f_X6_lacks_b32
    rw [cLt_flip (n := 12) (n' := 13) _ _ (by omega) (by omega) (by omega) (by omega)]
    by_cases c : m < 13
    · have lm := v_M hO (m := m) (by omega) (by omega)
      have vm := (hO.2.2.2.1 m (by omega) (by omega)).1
      have tb := tr_b vm
      have f1 := tr_far vm
      rw [p2.2.2.2.2.2.2.1 m (by omega) (by omega), hM'.2.2.2.2.2.2.2.1 m (by omega) (by omega), cLt_t (by omega) (by omega) c, cLt_t (by omega) (by omega) c, cO_t p2.1, ck_t (by omega), ck_t (by omega)]
      by_cases z : hM (aH A g) m < 1000000000000
      · rw [jLt_t (by omega) (by omega) z, jLt_t (by omega) (by omega) (f1.mpr z)]
        refine ⟨rfl, ?_⟩
        simp only [T_some, Sum.elim_inl]
        exact ⟨⟨bOr_R _ _, by omega⟩, by omega⟩
      · rw [jLt_f (by omega) (by omega) z, jLt_f (by omega) (by omega) (fun w => z (f1.mp w))]
        refine ⟨rfl, ?_⟩
        simp only [T_some, Sum.elim_inl]
        exact ⟨⟨bOr_R _ _, by omega⟩, by omega⟩
    · rw [cLt_f (by omega) (by omega) c, cLt_f (by omega) (by omega) c]
      refine ⟨rfl, ?_⟩
      simp only [T_ex, T_some, Sum.elim_inr]
      exact v1
/-- holds -/
def hoV (C : Cal) (by' t y : Int) : Int := if y + by' ≤ t then bI (decide (¬ kindC C y = -1 ∧ kindC C y = kindC C (y + by'))) else 0
theorem hoV_b {by' : Int} : 0 ≤ hoV C by' t y ∧ hoV C by' t y ≤ 1 := by
  unfold hoV
  split
  · have := bI_b (decide (¬ kindC C y = -1 ∧ kindC C y = kindC C (y + by'))); omega
  · omega
theorem sm_z {g : Int → Int} {lo : Int} {n : Nat} : ∀ d : Nat, (∀ k, lo + n ≤ k → k < lo + n + d → g k = 0) → sm g lo (n + d) = sm g lo n
  | 0, _ => rfl
  | d + 1, hz => by
    show sm g lo (n + d) + g (lo + ((n + d : Nat) : Int)) = _
    rw [sm_z d (fun k k1 k2 => hz k k1 (by omega)), hz _ (by omega) (by omega)]; omega
theorem E_holds (h : RR x o A σ) (hg : inR g) (hc : inR c) (hw : inR w) (hk : inR k) (hf : inR f) (ht : inR t) : T (f_X1_holds_2 σ x g c w k f t) (fun r => f_X6_holds σ o g c w k f t = some r ∧ inR r) := by
  have n := R_n h
  unfold f_X1_holds_2 f_X6_holds
  rw [cO_t (R_x h), cO_t (R_o h), X6_isHead h hg, X6_isCal h hc, X6_areYears hf ht]
  simp only [T_bind, T_some, T_cEq, bI_R, true_and, bI_0, Bool.not_eq_false, X1_isHead h hg, X1_isCalendar h hc, X1_areYears hf ht, bd_s, T_ck, T_cLt, X1_isB (by omega : inL w) (by omega : inL 0) (by omega : inL 1)]
  refine ⟨fun e => ⟨by rw [e, cEq_bf], by omega⟩, fun e => ⟨fun e1 => ⟨by rw [e, e1, cEq_bt, cEq_bf], by omega⟩, fun e1 => ⟨fun e2 => ⟨by rw [e, e1, e2, cEq_bt, cEq_bt, cEq_bf], by omega⟩, fun e2 => ⟨hw, fun e3 => ⟨?_, by omega⟩, fun e3 => ?_⟩⟩⟩⟩
  · have := isB_f.mp e3
    rw [e, e1, e2, cEq_bt, cEq_bt, cEq_bt, cEq_f hw (by omega) (by omega), cEq_f hw (by omega) (by omega)]
  have q := isH_t.mp e
  have qc := isC_t.mp e1
  have yb := isYs_t.mp e2
  have wb := isB_t.mp e3
  obtain ⟨p1, p2, _⟩ := R_head h q.1 q.2
  obtain ⟨c1, c2⟩ := R_cal h qc.1 qc.2
  have hC := R_cO h qc.1 qc.2
  have hO := R_hO h q.1 q.2
  have hM' := R_hm h q.1 q.2
  have iD : ∀ y z w, isD A c y z w = hasC (aC A c) y z w := by intro y z w; unfold isD; rw [e1]; rfl
  have bnd : ∀ r : Option Int, r.bind (fun z => some z) = r := by intro r; cases r <;> rfl
  rw [e, e1, e2, cEq_bt, cEq_bt, cEq_bt, p1, c1]
  simp only [T_nnS, T_ck, T_cEq, T_cO, bnd]
  have n6 := hO.1.1
  have n12 := hO.2.1.1
  refine ⟨by omega, fun z => ⟨?_, by omega⟩, fun z => ⟨by omega, by omega, by omega, fun w0 => ⟨p2.1, ?_⟩, fun w0 => ⟨p2.1, ?_⟩⟩⟩
  · by_cases w0 : w = 0
    · rw [cEq_t hw (by omega) w0, ck_t (by omega), hM'.2.2.1, X6_isB hk (by omega) (by omega), isB_f.mpr (by omega)]
      simp only [bd_s, cEq_bf]
    · rw [cEq_f hw (by omega) w0, cEq_t hw (by omega) (by omega), ck_t (by omega), hM'.2.2.2.2.1, X6_isB hk (by omega) (by omega), isB_f.mpr (by omega)]
      simp only [bd_s, cEq_bf]
  · rw [cEq_t hw (by omega) w0, ck_t (by omega), hM'.2.2.1, X6_isB hk (by omega) (by omega)]
    unfold f_X1_holds_2_j78
    rw [p2.2.1]
    simp only [T_cLt, bd_s, T_some]
    refine ⟨by omega, fun z1 => ?_, fun z1 => ⟨by rw [isB_f.mpr (by omega), cEq_bf], by omega⟩⟩
    have sk := hO.1.2 k (by omega) z1
    have ek := p2.2.2.1 k (by omega) z1
    have emk := hM'.2.2.2.1 k (by omega) z1
    rw [isB_t.mpr (by omega : 0 ≤ k ∧ k ≤ hN (aH A g) - 1), cEq_bt, ck_t (by omega), emk.1]
    have vx : T (lp (fun s => f_X1_holds_2_b90 σ w k t (aHa A g) (aCa A c) s.1 s.2) (0, f)) (fun r => r = sm (hoV (aC A c) (hB (aH A g) k) t) f (t + 1 - f).toNat) := by
      refine T_lp (fun s => (f ≤ s.2 ∧ s.2 ≤ t + 1) ∧ s.1 = sm (hoV (aC A c) (hB (aH A g) k) t) f (s.2 - f).toNat) (fun s => (t + 1 - s.2).toNat) ?_ ⟨by dsimp only; omega, by dsimp only; rw [show (f - f).toNat = 0 by omega]; rfl⟩
      intro ⟨v, y⟩ ⟨y1, ev⟩
      dsimp only at y1 ev
      have st := sm_at (hoV (aC A c) (hB (aH A g) k) t) y1.1
      have k1 := kindC_R hC y
      have k2 := kindC_R hC (y + hB (aH A g) k)
      unfold f_X1_holds_2_b90
      rw [ek.1]
      simp only [T_some, T_none, T_ck, T_cLt, T_cEq, T_jLt, T_jEq, T_bind, T_bd2, T_wS, T_cO, T_nnS, T_cNullN, T_cNullS, T_bT1, T_bT2, T_ex, T_ite, T_dC, Sum.elim_inl, Sum.elim_inr, X2_kind c2 (by omega : inR y), X2_kind c2 (by omega : inR (y + hB (aH A g) k))]
      refine ⟨by omega, fun z2 => ?_, fun z2 => ⟨by omega, fun w1 => by omega, fun _ => ⟨p2.1, by omega, by omega, fun z3 => ⟨⟨by omega, ?_⟩, by omega⟩, fun z3 => ⟨c2.1, by omega, fun z4 => ⟨⟨by omega, ?_⟩, by omega⟩, fun z4 => ⟨by omega, by omega, fun z5 => ⟨⟨by omega, ?_⟩, by omega⟩, fun z5 => ⟨⟨by omega, ?_⟩, by omega⟩⟩⟩⟩⟩⟩
      · have : y = t + 1 := by omega
        rw [ev, this]
      · rw [st, ev]; unfold hoV; rw [if_neg (by omega)]; omega
      · rw [st, ev]; unfold hoV; rw [if_pos (by omega), decide_eq_false (fun q => q.1 z4)]; rfl
      · rw [st, ev]; unfold hoV; rw [if_pos (by omega), decide_eq_true ⟨z4, z5⟩]; rfl
      · rw [st, ev]; unfold hoV; rw [if_pos (by omega), decide_eq_false (fun q => z5 q.2)]; rfl
    have vm : f_X6_stepTrue σ o c (hB (aH A g) k) f t = some (sm (hoV (aC A c) (hB (aH A g) k) t) f (t + 1 - f).toNat) := by
      unfold f_X6_stepTrue
      rw [cO_t (R_o h)]
      refine T_eq.mp (T_lp (fun s => (f ≤ s.2 ∧ s.2 ≤ t + 1) ∧ s.1 = sm (hoV (aC A c) (hB (aH A g) k) t) f (s.2 - f).toNat) (fun s => (t + 1 - s.2).toNat) ?_ ⟨by dsimp only; omega, by dsimp only; rw [show (f - f).toNat = 0 by omega]; rfl⟩)
      intro ⟨v, y⟩ ⟨y1, ev⟩
      dsimp only at y1 ev
      have st := sm_at (hoV (aC A c) (hB (aH A g) k) t) y1.1
      have k1 := kindC_R hC y
      have k2 := kindC_R hC (y + hB (aH A g) k)
      unfold f_X6_stepTrue_b6
      simp only [T_some, T_none, T_ck, T_cLt, T_cEq, T_jLt, T_jEq, T_bind, T_bd2, T_wS, T_cO, T_nnS, T_cNullN, T_cNullS, T_bT1, T_bT2, T_ex, T_ite, T_dC, Sum.elim_inl, Sum.elim_inr, X6_kindO h qc (by omega : inR y), X6_kindO h qc (by omega : inR (y + hB (aH A g) k))]
      refine ⟨by omega, fun z2 => ?_, fun z2 => ⟨by omega, fun z4 => ⟨⟨by omega, ?_⟩, by omega⟩, fun z4 => ⟨by omega, fun z5 => ⟨⟨by omega, ?_⟩, by omega⟩, fun z5 => ⟨⟨by omega, ?_⟩, by omega⟩⟩⟩⟩
      · have e9 : (t + 1 - f).toNat = (y - f).toNat + (t + 1 - y).toNat := by omega
        rw [ev, e9, sm_z]
        intro j j1 j2
        unfold hoV; rw [if_neg (by omega)]
      · rw [st, ev]; unfold hoV; rw [if_pos (by omega), decide_eq_false (fun q => q.1 z4)]; rfl
      · rw [st, ev]; unfold hoV; rw [if_pos (by omega), decide_eq_true ⟨z4, z5⟩]; rfl
      · rw [st, ev]; unfold hoV; rw [if_pos (by omega), decide_eq_false (fun q => z5 q.2)]; rfl
    refine T_mono vx (fun r hr => ?_)
    have s0 := sm_0 (g := hoV (aC A c) (hB (aH A g) k) t) (lo := f) (n := (t + 1 - f).toNat) (fun k _ _ => hoV_b.1)
    have s1 := sm_u (hoV (aC A c) (hB (aH A g) k) t) f 1 (fun k => hoV_b.2) (t + 1 - f).toNat
    rw [vm, hr]
    exact ⟨rfl, by omega⟩
  · rw [cEq_f hw (by omega) w0, cEq_t hw (by omega) (by omega), ck_t (by omega), hM'.2.2.2.2.1, X6_isB hk (by omega) (by omega)]
    unfold f_X1_holds_2_j78
    rw [p2.2.2.2.1]
    simp only [T_cLt, bd_s, T_some]
    refine ⟨by omega, fun z1 => ?_, fun z1 => ⟨by rw [isB_f.mpr (by omega), cEq_bf], by omega⟩⟩
    have sk := hO.2.1.2 k (by omega) z1
    have ek := p2.2.2.2.2.1 k (by omega) z1
    have emk := hM'.2.2.2.2.2.1 k (by omega) z1
    rw [isB_t.mpr (by omega : 0 ≤ k ∧ k ≤ mN (aH A g) - 1), cEq_bt, ck_t (by omega), ck_t (by omega), emk.1, emk.2.1]
    unfold f_X6_monthsTrue
    rw [cO_t (R_o h)]
    refine T_lp2 (fun s => (f ≤ s.2 ∧ s.2 ≤ t + 1) ∧ (0 ≤ s.1 ∧ s.1 ≤ s.2)) (fun s => (t + 1 - s.2).toNat) ?_ ⟨by dsimp only; omega, by dsimp only; omega⟩
    intro ⟨v, y⟩ ⟨y1, v1⟩
    dsimp only at y1 v1
    unfold f_X1_holds_2_b90 f_X6_monthsTrue_b7
    have al := X1_areAlike c2 (y := y) (p := mO (aH A g) k) (q := mP (aH A g) k) (by omega) (by omega) (by omega)
    rw [ek.1, ek.2.1, al, cEq_t hw (by omega) (by omega : w = 1), cO_t p2.1, ck_t (by omega), ck_t (by omega), X6_isDat h hc (by omega) (by omega) (by omega), X6_isDat h hc (by omega) (by omega) (by omega), iD, iD]
    constructor
    · simp only [bd_s]
      unfold alC
      cases z2 : hasC (aC A c) y (mO (aH A g) k) 1 with
      | false => simp only [Bool.false_and, cEq_bf]
      | true =>
        cases z3 : hasC (aC A c) y (mP (aH A g) k) 1 with
        | false => simp only [Bool.false_and, Bool.and_false, cEq_bf, cEq_bt]
        | true =>
          have d1 := dayC_bb h qc (y := y) (m := mO (aH A g) k) (d := 1)
          have d2 := dayC_bb h qc (y := y) (m := mP (aH A g) k) (d := 1)
          rw [X6_dayO h (by rw [iD]; exact z2), X6_dayO h (by rw [iD]; exact z3)]
          simp only [Bool.true_and, cEq_bt, bd_s]
          rw [ck_t (by omega), ck_t (by omega)]
          by_cases w1 : Int.tmod (dayC (aC A c) y (mO (aH A g) k) 1) 7 = Int.tmod (dayC (aC A c) y (mP (aH A g) k) 1) 7
          · rw [cEq_t (x := Int.tmod _ 7) tmod_R tmod_R w1, decide_eq_true w1, cEq_bt]
          · rw [cEq_f (x := Int.tmod _ 7) tmod_R tmod_R w1, decide_eq_false w1, cEq_bf]
    · simp only [T_some, T_none, T_ck, T_cLt, T_cEq, T_jLt, T_jEq, T_bind, T_bd2, T_wS, T_cO, T_nnS, T_cNullN, T_cNullS, T_bT1, T_bT2, T_ex, T_ite, T_dC, Sum.elim_inl, Sum.elim_inr, bI_R, true_and, bI_0, Bool.not_eq_false]
      refine ⟨by omega, fun z2 => by omega, fun z2 => ⟨fun _ => by omega, fun _ => by omega⟩⟩
end
