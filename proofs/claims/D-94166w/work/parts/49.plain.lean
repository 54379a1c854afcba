/-! the model's queue: push, touch, flood -/
set_option maxRecDepth 100000
def mqW (o : Nat) (p : Int) : Nat → Nat → Int → Prop := fun a k i => a = o ∧ ((k = 30 ∧ 10001 * p ≤ i ∧ i < 10001 * p + 10001) ∨ k = 32 ∨ k = 33 ∨ k = 34 ∨ k = 35)
def lfM (σ : St) (o : Nat) (p : Int) : Int → Int := fun i => gJ σ o 30 (10001 * p + i)
section
variable {σ : St} {o : Nat} {p v : Int}
theorem X6_push (ho : oc σ o 5) (v1 : 1 ≤ v) (v2 : v ≤ 9999) (hw : gI σ o 33 v = 0 ∨ gI σ o 33 v = 1) (hd : 0 ≤ gI σ o 34 0 ∧ gI σ o 34 0 < 10001) (wg : 0 ≤ gI σ o 35 0 ∧ gI σ o 35 0 ≤ 10000) : T (f_X6_push σ o v) (fun σ' => Fr (mqW o p) σ σ' ∧ gJ σ' = gJ σ ∧ gI σ' o 34 0 = gI σ o 34 0 ∧ ((¬ gI σ o 33 v = 0 ∧ (∀ i, gI σ' o 33 i = gI σ o 33 i) ∧ (∀ i, gI σ' o 32 i = gI σ o 32 i) ∧ gI σ' o 35 0 = gI σ o 35 0) ∨ (gI σ o 33 v = 0 ∧ (∀ i, gI σ' o 33 i = if i = v then 1 else gI σ o 33 i) ∧ (∀ i, gI σ' o 32 i = if i = (gI σ o 34 0 + gI σ o 35 0) % 10001 then v else gI σ o 32 i) ∧ gI σ' o 35 0 = gI σ o 35 0 + 1))) := by
  unfold f_X6_push
  simp only [T_some, T_none, T_ck, T_cLt, T_cEq, T_jLt, T_jEq, T_bind, T_bd2, T_wS, T_cO, T_nnS, T_cNullN, T_cNullS, T_bT1, T_bT2, T_ex, T_ite, T_dC, Sum.elim_inl, Sum.elim_inr]
  have tm : Int.tmod (gI σ o 34 0 + gI σ o 35 0) 10001 = (gI σ o 34 0 + gI σ o 35 0) % 10001 := Int.tmod_eq_emod_of_nonneg (by omega)
  refine ⟨ho, by omega, by omega, fun c => ?_, fun c => ?_⟩
  · simp only [gI_sI, show ((34 : Nat) = 33) = False by simp, show ((35 : Nat) = 33) = False by simp, show ((35 : Nat) = 32) = False by simp, false_and, and_false, if_false, tm]
    refine ⟨⟨by omega, by simp⟩, by omega, by omega, Fr_t (Fr_sI ⟨rfl, by simp⟩) (Fr_t (Fr_sI ⟨rfl, by simp⟩) (Fr_sI ⟨rfl, by simp⟩)), rfl, ?_, Or.inr ⟨c, fun i => ?_, fun i => ?_, ?_⟩⟩
    all_goals first | rfl | simp
  · refine ⟨Fr_r, ?_, ?_, Or.inl ⟨c, fun _ => ?_, fun _ => ?_, ?_⟩⟩
    all_goals first | exact trivial | rfl
theorem X6_touch {y c : Int} (ho : oc σ o 5) (hp : 0 ≤ p ∧ p < 9) (y1 : 1 ≤ y) (y2 : y ≤ 9999) (hc : 0 ≤ c ∧ c ≤ 99) (hv : inR v) (hl : ∀ z, 1 ≤ z → z ≤ 9999 → 0 ≤ lfM σ o p z ∧ lfM σ o p z ≤ 1152921504606846976) (hq : qOK 10001 (gI σ o 33) (gI σ o 32) (gI σ o 34 0) (gI σ o 35 0)) : T (f_X6_touch σ o p y v c) (fun σ' => Fr (mqW o p) σ σ' ∧ IMP 10001 (lfM σ o p) (gI σ o 33) (gI σ o 32) (gI σ o 34 0) (gI σ o 35 0) (lfM σ' o p) (gI σ' o 33) (gI σ' o 32) (gI σ' o 34 0) (gI σ' o 35 0) v (lfM σ o p y + 100000 * c + 1)) := by
  have qb := q_b hq
  have b1 := b01_b (1 ≤ v ∧ v ≤ 9999)
  have ly := hl y y1 y2
  unfold f_X6_touch
  simp only [T_some, T_none, T_ck, T_cLt, T_cEq, T_jLt, T_jEq, T_bind, T_bd2, T_wS, T_cO, T_nnS, T_cNullN, T_cNullS, T_bT1, T_bT2, T_ex, T_ite, T_dC, Sum.elim_inl, Sum.elim_inr, X6_in hv (by omega : inR 1) (by omega : inR 9999)]
  refine ⟨ho, by omega, fun q => ?_, fun q => ?_⟩
  · rw [b01_0] at q
    exact ⟨Fr_r, rfl, Or.inl ⟨fun _ => rfl, fun _ => rfl, fun _ => rfl, rfl, Or.inl q⟩⟩
  · rw [b01_0, Decidable.not_not] at q
    have lv := hl v q.1 q.2
    have wv := q_wt hq q.1 q.2
    have ely : gJ σ o 30 (10001 * p + y) = lfM σ o p y := rfl
    have elv : gJ σ o 30 (10001 * p + v) = lfM σ o p v := rfl
    rw [ely, elv]
    refine ⟨by omega, by omega, by omega, by omega, fun c1 => ⟨by omega, ?_⟩, fun c1 => ?_⟩
    · refine T_mono (X6_push (σ := sJ σ o 30 (10001 * p + v) (lfM σ o p y + 100000 * c + 1)) (p := p) ho q.1 q.2 wv qb.2 (by have := qb.1; exact ⟨this.1, Int.le_trans this.2 (by omega)⟩)) (fun σ' ⟨f1, j1, i34, hh⟩ => ⟨Fr_t (Fr_sJ ⟨rfl, by left; omega⟩) f1, i34, Or.inr ⟨q, c1, fun i => ?_, ?_⟩⟩)
      · unfold lfM
        rw [j1, gJ_sJ]
        by_cases e : i = v
        · rw [if_pos (by simp [e]), if_pos e]; rfl
        · rw [if_neg (by omega), if_neg e]
      · exact hh
    · exact ⟨Fr_r, rfl, Or.inl ⟨fun _ => rfl, fun _ => rfl, fun _ => rfl, rfl, Or.inr (by omega)⟩⟩
end
def SPM (src : Int → Prop) (n : Int) (by' co : Int → Int) (o : Nat) (hh p : Int) (Z : Int → Prop) (P : Int → Int → Int → Prop) (σ : St) : Prop := oc σ o 5 ∧ ((0 ≤ hh ∧ hh < 9) ∧ (0 ≤ p ∧ p < 9)) ∧ gI σ o 18 hh = n ∧ (∀ k, 0 ≤ k → k < n → gI σ o 19 (6 * hh + k) = by' k ∧ gI σ o 20 (6 * hh + k) = co k) ∧ INV src (edS n by' co) 100000 1152921504606846976 10001 (lfM σ o p) (gI σ o 33) (gI σ o 32) (gI σ o 34 0) (gI σ o 35 0) Z P
section
variable {src : Int → Prop} {n : Int} {by' co : Int → Int} {o : Nat} {hh p : Int} {Z : Int → Prop} {P : Int → Int → Int → Prop} {σ : St}
theorem X6_flood (hst : stOK n by' co) (hs : SPM src n by' co o hh p Z (fun _ _ _ => False) σ) : T (f_X6_flood σ o hh p) (fun σ' => Fr (mqW o p) σ σ' ∧ SPM src n by' co o hh p Z (fun _ _ _ => False) σ' ∧ gI σ' o 35 0 = 0) := by
  unfold f_X6_flood
  rw [cO_t hs.1]
  refine T_lp (fun σ1 => Fr (mqW o p) σ σ1 ∧ SPM src n by' co o hh p Z (fun _ _ _ => False) σ1) (fun σ1 => (mea (lfM σ1 o p) (gI σ1 o 35 0)).toNat) ?_ ⟨Fr_r, hs⟩
  intro σ1 ⟨hf1, hs1⟩
  obtain ⟨ho, ht, h14, hk, hi⟩ := hs1
  have qb := q_b hi.1
  unfold f_X6_flood_b0
  simp only [T_cO, T_cLt]
  refine ⟨ho, by omega, fun c => ?_, fun c => ?_⟩
  · obtain ⟨p1, p2, p3⟩ := q_pop (by omega) hi.1 c
    have tm : Int.tmod (gI σ1 o 34 0 + 1) 10001 = (gI σ1 o 34 0 + 1) % 10001 := Int.tmod_eq_emod_of_nonneg (by omega)
    generalize hy : gI σ1 o 32 (gI σ1 o 34 0) = y at p1 p2 p3 ⊢
    simp only [T_some, T_none, T_ck, T_cLt, T_cEq, T_jLt, T_jEq, T_bind, T_bd2, T_wS, T_cO, T_nnS, T_cNullN, T_cNullS, T_bT1, T_bT2, T_ex, T_ite, T_dC, Sum.elim_inl, Sum.elim_inr, tm]
    refine ⟨by omega, by omega, ⟨by omega, by simp⟩, ?_⟩
    generalize h8 : sI (sI (sI σ1 o 34 0 ((gI σ1 o 34 0 + 1) % 10001)) o 35 0 (gI (sI σ1 o 34 0 ((gI σ1 o 34 0 + 1) % 10001)) o 35 0 - 1)) o 33 y 0 = σ8
    have j9 : lfM σ8 o p = lfM σ1 o p := by rw [← h8]; rfl
    have i21 : gI σ8 o 35 0 = gI σ1 o 35 0 - 1 := by rw [← h8]; simp only [gI_sI, gI_sJ, gI_sP, gI_cpI, gJ_sI, gJ_sJ, gJ_sP, gJ_cpI, gP_sI, gP_sJ, gP_sP, gP_cpI, cL_sI, cL_sJ, cL_sP, cL_cpI, aR_sI, aR_sJ, aR_sP, aR_cpI, nX_sI, nX_sJ, nX_sP, nX_cpI, oc_sIe, oc_sJe, oc_sPe, oc_cpIe]; simp
    have i19 : gI σ8 o 34 0 = (gI σ1 o 34 0 + 1) % 10001 := by rw [← h8]; simp only [gI_sI, gI_sJ, gI_sP, gI_cpI, gJ_sI, gJ_sJ, gJ_sP, gJ_cpI, gP_sI, gP_sJ, gP_sP, gP_cpI, cL_sI, cL_sJ, cL_sP, cL_cpI, aR_sI, aR_sJ, aR_sP, aR_cpI, nX_sI, nX_sJ, nX_sP, nX_cpI, oc_sIe, oc_sJe, oc_sPe, oc_cpIe]; simp
    have i11 : gI σ8 o 32 = gI σ1 o 32 := by rw [← h8]; funext i; simp only [gI_sI, gI_sJ, gI_sP, gI_cpI, gJ_sI, gJ_sJ, gJ_sP, gJ_cpI, gP_sI, gP_sJ, gP_sP, gP_cpI, cL_sI, cL_sJ, cL_sP, cL_cpI, aR_sI, aR_sJ, aR_sP, aR_cpI, nX_sI, nX_sJ, nX_sP, nX_cpI, oc_sIe, oc_sJe, oc_sPe, oc_cpIe]; simp
    have i12 : ∀ i, gI σ8 o 33 i = if i = y then 0 else gI σ1 o 33 i := by intro i; rw [← h8]; simp only [gI_sI, gI_sJ, gI_sP, gI_cpI, gJ_sI, gJ_sJ, gJ_sP, gJ_cpI, gP_sI, gP_sJ, gP_sP, gP_cpI, cL_sI, cL_sJ, cL_sP, cL_cpI, aR_sI, aR_sJ, aR_sP, aR_cpI, nX_sI, nX_sJ, nX_sP, nX_cpI, oc_sIe, oc_sJe, oc_sPe, oc_cpIe]; simp
    have f8 : Fr (mqW o p) σ1 σ8 := by rw [← h8]; exact Fr_t (Fr_sI ⟨rfl, by simp⟩) (Fr_t (Fr_sI ⟨rfl, by simp⟩) (Fr_sI ⟨rfl, by simp⟩))
    have mpos : 0 ≤ mea (lfM σ1 o p) (gI σ1 o 35 0 - 1) := by
      have := sm_0 (g := lfM σ1 o p) (lo := 1) (n := 9999) (fun k k1 k2 => (hi.2.1 k k1 (by omega)).2.1)
      unfold mea; omega
    have s8 : SPM src n by' co o hh p Z (fun u v c => u = y ∧ ¬ ∃ k', (0 ≤ k' ∧ k' < 0) ∧ (v = y - by' k' ∨ v = y + by' k') ∧ c = co k') σ8 := by
      refine ⟨Fr_oc f8 ho, ht, ?_, fun k k1 k2 => ?_, ?_, ?_, ?_, ?_⟩
      · rw [Fr_I f8 (by simp [mqW])]; exact h14
      · rw [Fr_I f8 (by simp [mqW]), Fr_I f8 (by simp [mqW])]; exact hk k k1 k2
      · rw [i11, i19, i21]; exact p3 (fun z _ _ => i12 z)
      · rw [j9]; exact hi.2.1
      · rw [j9]; exact hi.2.2.1
      · intro u v c' he
        rw [i12, j9]
        by_cases cu : u = y
        · right; left; exact ⟨cu, fun ⟨k', hk', _⟩ => by omega⟩
        · rw [if_neg cu]
          rcases hi.2.2.2 u v c' he with q | q | q
          · exact Or.inl q
          · exact absurd q id
          · exact Or.inr (Or.inr q)
    refine T_lp (fun s => (0 ≤ s.1 ∧ s.1 ≤ n) ∧ Fr (mqW o p) σ1 s.2 ∧ SPM src n by' co o hh p Z (fun u v c => u = y ∧ ¬ ∃ k', (0 ≤ k' ∧ k' < s.1) ∧ (v = y - by' k' ∨ v = y + by' k') ∧ c = co k') s.2 ∧ mea (lfM s.2 o p) (gI s.2 o 35 0) ≤ mea (lfM σ1 o p) (gI σ1 o 35 0 - 1)) (fun s => (n - s.1).toNat) ?_ ⟨⟨by omega, by have := hst.1; dsimp only; omega⟩, f8, s8, by dsimp only; rw [j9, i21]; exact Int.le_refl _⟩
    intro ⟨k, σ2⟩ ⟨⟨k1, k2⟩, f2, s2, m2⟩
    have k1 : 0 ≤ k := k1
    have k2 : k ≤ n := k2
    dsimp only at f2 s2 m2
    have s2' := s2
    obtain ⟨ho2, ht2, h142, hk2, hi2⟩ := s2
    unfold f_X6_flood_b51
    have n6 := hst.1
    simp only [T_cO, T_cLt, T_ck]
    rw [h142]
    refine ⟨ho2, by omega, by omega, fun ck => ?_, fun ck => ?_⟩
    · have sk := hst.2 k k1 ck
      have e2 := hk2 k k1 ck
      have ly := hi2.2.1 y p1.1 p1.2
      rw [e2.1, e2.2]
      simp only [T_bind]
      refine ⟨by omega, by omega, ?_⟩
      have wkv : ∀ v, (v = y - by' k ∨ v = y + by' k) → (1 ≤ v ∧ v ≤ 9999) → (∃ S C, wk src (edS n by' co) S v C ∧ lfM σ2 o p y + 100000 * co k + 1 = 100000 * C + S) ∨ 1152921504606846976 ≤ lfM σ2 o p y + 100000 * co k + 1 := by
        intro v hv hb
        rcases ly.1 with q | ⟨S, C, q1, q2⟩
        · right; omega
        · left
          refine ⟨S + 1, C + co k, ⟨y, co k, by rw [show C + co k - co k = C by omega]; exact q1, p1, hb, k, ⟨k1, ck⟩, hv, rfl⟩, ?_⟩
          rw [q2, Int.mul_add]; omega
      have step : ∀ (σa : St) (v : Int) (PP : Int → Int → Int → Prop), (v = y - by' k ∨ v = y + by' k) → SPM src n by' co o hh p Z PP σa → lfM σa o p y = lfM σ2 o p y → T (f_X6_touch σa o p y v (co k)) (fun σ' => Fr (mqW o p) σa σ' ∧ SPM src n by' co o hh p Z PP σ' ∧ mea (lfM σ' o p) (gI σ' o 35 0) ≤ mea (lfM σa o p) (gI σa o 35 0) ∧ (∀ i, lfM σ' o p i ≤ lfM σa o p i) ∧ lfM σ' o p y = lfM σ2 o p y ∧ ((1 ≤ v ∧ v ≤ 9999) → lfM σ' o p v ≤ lfM σ2 o p y + 100000 * co k + 1)) := by
        intro σa v PP hv hsa ey
        obtain ⟨ho3, ht3, h3, hk3, hi3⟩ := hsa
        refine T_mono (X6_touch ho3 ht.2 p1.1 p1.2 sk.2 (by omega) (fun z z1 z2 => (hi3.2.1 z z1 z2).2) hi3.1) (fun σ' ⟨hf, him⟩ => ?_)
        rw [ey] at him
        by_cases hb : 1 ≤ v ∧ v ≤ 9999
        · obtain ⟨a1, a2, a3, a4, a5, a6⟩ := inv_imp (by omega) (fun u v c => edS_b) hi3 him (by omega) (wkv v hv hb)
          refine ⟨hf, ⟨Fr_oc hf ho3, ht3, ?_, fun k k1 k2 => ?_, a1⟩, a2, a3, ?_, a5⟩
          · rw [Fr_I hf (by simp [mqW])]; exact h3
          · rw [Fr_I hf (by simp [mqW]), Fr_I hf (by simp [mqW])]; exact hk3 k k1 k2
          · rw [a4 y (by omega), ey]
        · obtain ⟨ehd, him⟩ := him
          rcases him with ⟨e1, e2, e3, e4, _⟩ | ⟨hb', _⟩
          · have el : lfM σ' o p = lfM σa o p := funext e1
            have ew : gI σ' o 33 = gI σa o 33 := funext e2
            have eq : gI σ' o 32 = gI σa o 32 := funext e3
            rw [el, e4]
            refine ⟨hf, ⟨Fr_oc hf ho3, ht3, ?_, fun k k1 k2 => ?_, ?_⟩, Int.le_refl _, fun _ => Int.le_refl _, ey, fun q => absurd q hb⟩
            · rw [Fr_I hf (by simp [mqW])]; exact h3
            · rw [Fr_I hf (by simp [mqW]), Fr_I hf (by simp [mqW])]; exact hk3 k k1 k2
            · rw [el, ew, eq, e4, ehd]; exact hi3
          · exact absurd hb' hb
      refine T_mono (step σ2 (y - by' k) _ (Or.inl rfl) s2' rfl) (fun σ3 ⟨a1, a2, a3, a4, a5, a6⟩ => ?_)
      have hk3 := a2.2.2.2.1 k k1 ck
      rw [hk3.1, hk3.2]
      simp only [T_cO, T_ck, T_bind]
      refine ⟨a2.1, by omega, by omega, ?_⟩
      refine T_mono (step σ3 (y + by' k) _ (Or.inr rfl) a2 a5) (fun σ4 ⟨c1, c2, c3, c4, c5, c6⟩ => ?_)
      simp only [T_some, T_none, T_ck, T_cLt, T_cEq, T_jLt, T_jEq, T_bind, T_bd2, T_wS, T_cO, T_nnS, T_cNullN, T_cNullS, T_bT1, T_bT2, T_ex, T_ite, T_dC, Sum.elim_inl, Sum.elim_inr]
      refine ⟨⟨by omega, Fr_t (Fr_t f2 a1) c1, ?_, by omega⟩, by omega⟩
      obtain ⟨d1, d2, d3, d4, d5, d6, d7, d8⟩ := c2
      refine ⟨d1, d2, d3, d4, d5, d6, d7, fun u v c' he => ?_⟩
      rcases d8 u v c' he with q | ⟨q1, q2⟩ | q
      · exact Or.inl q
      · by_cases hd : (v = y - by' k ∨ v = y + by' k) ∧ c' = co k
        · right; right
          rw [q1, c5, hd.2]
          rcases hd.1 with w | w
          · have w1 := a6 (by rw [← w]; exact he.2.1)
            have w2 := c4 (y - by' k)
            rw [w]; omega
          · have w1 := c6 (by rw [← w]; exact he.2.1)
            rw [w]; omega
        · right; left
          refine ⟨q1, fun ⟨k', hk', r1, r2⟩ => ?_⟩
          by_cases e : k' = k
          · rw [e] at r1 r2; exact hd ⟨r1, r2⟩
          · exact q2 ⟨k', by omega, r1, r2⟩
      · exact Or.inr (Or.inr q)
    · simp only [T_some, T_none, T_ck, T_cLt, T_cEq, T_jLt, T_jEq, T_bind, T_bd2, T_wS, T_cO, T_nnS, T_cNullN, T_cNullS, T_bT1, T_bT2, T_ex, T_ite, T_dC, Sum.elim_inl, Sum.elim_inr]
      refine ⟨⟨Fr_t hf1 f2, ?_⟩, ?_⟩
      · obtain ⟨d5, d6, d7, d8⟩ := hi2
        refine ⟨ho2, ht2, h142, hk2, d5, d6, d7, fun u v c' he => ?_⟩
        rcases d8 u v c' he with q | ⟨q1, q2⟩ | q
        · exact Or.inl q
        · exfalso
          obtain ⟨k', r0, r1, r2⟩ := he.2.2
          exact q2 ⟨k', by omega, by rw [← q1]; exact r1, r2⟩
        · exact Or.inr (Or.inr q)
      · unfold mea at m2 mpos ⊢
        omega
  · simp only [T_some, T_none, T_ck, T_cLt, T_cEq, T_jLt, T_jEq, T_bind, T_bd2, T_wS, T_cO, T_nnS, T_cNullN, T_cNullS, T_bT1, T_bT2, T_ex, T_ite, T_dC, Sum.elim_inl, Sum.elim_inr]
    exact ⟨hf1, ⟨ho, ht, h14, hk, hi⟩, by omega⟩
end
