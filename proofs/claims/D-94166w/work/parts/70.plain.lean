/-! calls that change: the relation afterwards -/
set_option maxRecDepth 100000
def mkA (A : AS) (v' : Nat → Int → Int) (q' : Nat → Int → Int) (aa' : Int → Nat) (b' : Int × Int × Int) : AS := (v', A.2.1, A.2.2.1, A.2.2.2.1, A.2.2.2.2.1, A.2.2.2.2.2.1, q', aa', A.2.2.2.2.2.2.2.2.1, b')
def upv (v : Nat → Int → Int) (k : Nat) (i w : Int) : Nat → Int → Int := fun k' i' => if k' = k ∧ i' = i then w else v k' i'
/-- the model's plain rows -/
def RMv (o : Nat) (A : AS) (σ : St) : Prop := (gI σ o 2 0 = aV A 1 0 ∧ gI σ o 49 0 = (aV A 13 0) ∧ gI σ o 54 0 = (aV A 20 0) ∧ gI σ o 63 0 = (aV A 25 0) ∧ gI σ o 56 0 = aV A 14 0 ∧ gI σ o 57 0 = aV A 15 0 ∧ gI σ o 64 0 = aV A 26 0 ∧ gI σ o 65 0 = aV A 27 0 ∧ gI σ o 69 0 = aV A 10 0) ∧ (∀ i, 0 ≤ i → i < aV A 1 0 → gI σ o 1 i = aV A 0 i % 256) ∧ (∀ k, 0 ≤ k → k < (aV A 13 0) → gI σ o 42 k = aQ A 0 k ∧ gI σ o 43 k = aQ A 1 k ∧ gI σ o 44 k = aQ A 2 k ∧ gI σ o 45 k = aQ A 3 k ∧ gI σ o 46 k = aQ A 4 k ∧ gI σ o 47 k = aQ A 6 k ∧ gI σ o 48 k = aQ A 7 k) ∧ (∀ p, 0 ≤ p → p < (aV A 20 0) → gI σ o 50 p = aV A 16 p ∧ gI σ o 51 p = aV A 17 p ∧ gI σ o 52 p = aV A 18 p ∧ gI σ o 53 p = aV A 19 p) ∧ (∀ k, 0 ≤ k → k < (aV A 25 0) → gI σ o 61 k = aV A 23 k ∧ gI σ o 62 k = aV A 24 k) ∧ (¬ aV A 14 0 = -1 → gI σ o 58 0 = aBy A ∧ gI σ o 59 0 = aBm A ∧ gI σ o 60 0 = aBd A) ∧ ∀ k, 0 ≤ k → k < aV A 10 0 → gI σ o 66 k = aV A 9 (3 * k) ∧ (¬ aV A 9 (3 * k) = -1 → gI σ o 67 k = aV A 9 (3 * k + 1) ∧ gI σ o 68 k = aV A 9 (3 * k + 2)) ∧ inR (gI σ o 67 k) ∧ inR (gI σ o 68 k)
section
variable {σ σ1 σ2 : St} {x o a b : Nat} {A A' : AS} {g c y m d v k s p w i : Int} {v' q' : Nat → Int → Int} {aa' : Int → Nat} {b' : Int × Int × Int}
theorem RMv_of (h : RM o A σ) : RMv o A σ := by
  obtain ⟨⟨a0, a1, a2, a3, a4, a5, a6, a7, a8, a9, a10, a11⟩, b1, b2, b3, b4, b5, b6, b7, b8⟩ := h
  exact ⟨⟨a1, a4, a5, a6, a7, a8, a9, a10, a11⟩, b1.1, b4, b5, b6, b7, b8⟩
theorem RR_upd (h : RR x o A σ) (f1 : Fr (fun a _ _ => a = x) σ σ1) (f2 : Fr (fun a k _ => a = o ∧ (k = 1 ∨ k = 2 ∨ 42 ≤ k)) σ1 σ2) (h6 : v' 6 0 = aV A 6 0) (h7 : v' 7 0 = aV A 7 0) (hv : ∀ k i, ¬ (k = 8 ∨ k = 11 ∨ k = 21) → gI σ1 x k i = v' k i) (hq : XQ x (mkA A v' q' aa' b') σ1) (ha : AOK (mkA A v' q' aa' b')) (hm : RMv o (mkA A v' q' aa' b') σ2) : RR x o (mkA A v' q' aa' b') σ2 := by
  obtain ⟨hw, hA, hX, hM⟩ := h
  have cx := hX.1.1.1
  have co := hM.1.1.1
  have ne : ¬ o = x := by intro e; rw [e, cx] at co; simp at co
  have s1 : ∀ b, ¬ b = x → sa σ σ1 b := fun b hb => Fr_sa f1 (fun k i q => hb q)
  have s2 : ∀ b, ¬ b = o → sa σ1 σ2 b := fun b hb => Fr_sa f2 (fun k i q => hb q.1)
  have gp1 : gP σ1 = gP σ := f1.2.2.1
  have nx : ∀ b c, cL σ b = some c → ¬ c = 0 → ¬ b = x := fun b c hb hc e => by rw [e, cx] at hb; exact hc (Option.some.inj hb).symm
  have s3 : ∀ b, (cL σ b = some 1 ∨ cL σ b = some 2 ∨ cL σ b = some 3) → sa σ σ1 b := by
    intro b hb
    refine s1 b (fun e => ?_)
    rw [e, cx] at hb; simp at hb
  have X1 : RX x (mkA A v' q' aa' b') σ1 := by
    obtain ⟨⟨v1, v2⟩, ⟨c1, c2, c3⟩, ⟨e1, e2, e3, e4, e5, e6, e7, e8⟩, q⟩ := hX
    refine ⟨⟨Fr_oc f1 v1, hv⟩, ⟨fun c k1 k2 => ?_, by rw [gp1]; exact c2, drA_sa s3 c3⟩, ⟨fun h k1 k2 => ?_, fun g h g1 g2 h1 h2 n => e2 g h g1 (by have : v' 7 0 = _ := h7; have g2 : g < v' 7 0 := g2; omega) h1 (by have : v' 7 0 = _ := h7; have h2 : h < v' 7 0 := h2; omega) n, by rw [gp1]; exact e3, by rw [gp1]; exact e4, e5, qE_sa (s1 _ (nx _ 4 e6.1.1 (by omega))) e6, ?_, qE_sa (s1 _ (nx _ 4 e8.1.1 (by omega))) e8⟩, hq⟩
    · have k2' : c < aV A 6 0 := by have : c < v' 6 0 := k2; omega
      obtain ⟨d1, d2, d3⟩ := c1 c k1 k2'
      exact ⟨by rw [gp1]; exact d1, CalX_sa s3 d2, below_sa s3 d2 d3⟩
    · have k2' : h < aV A 7 0 := by have : h < v' 7 0 := k2; omega
      obtain ⟨d1, d2, d3, d4, d5⟩ := e1 h k1 k2'
      have sh := s1 _ (nx _ 4 d2.1.1 (by omega))
      exact ⟨by rw [gp1]; exact d1, HeadX_sa sh d2, cac_sa sh d3, by show gI σ1 (aHa A h) 16 0 = aW A h; rw [sh.2.2.1]; exact d4, d5⟩
    · have sD := s1 _ (nx _ 4 e6.1.1 (by omega))
      rw [show gI σ1 (aDh (mkA A v' q' aa' b')) 16 0 = gI σ (aDh A) 16 0 from by show gI σ1 (aDh A) 16 0 = _; rw [sD.2.2.1]]; exact e7
  have sO := s1 o ne
  have cx1 : cL σ1 x = some 0 := X1.1.1.1
  have co1 : cL σ1 o = some 5 := by rw [sO.1]; exact co
  refine ⟨Fr_WF f2 (Fr_WF f1 hw), ha, RX_gen X1 (fun b b1 _ => s2 b (fun e => b1 (by rw [e]; exact co1))) (XH_sa X1.2.2.1 (s2 x (fun e => ne e.symm)) (fun b hb => s2 b (fun e => by rw [e, co1] at hb; simp at hb))), ?_⟩
  have M1 := RM_sa hM sO
  obtain ⟨⟨a0, a1, a2, a3, _⟩, bt1, b2, b3, _⟩ := M1
  obtain ⟨⟨m1, m2, m3, m4, m5, m6, m7, m8, m9⟩, m10, m11, m12, m13, m14, m15⟩ := hm
  have nI : ∀ k i, ¬ (k = 1 ∨ k = 2 ∨ 42 ≤ k) → gI σ2 o k i = gI σ1 o k i := fun k i hk => Fr_I f2 (fun q => hk q.2)
  refine ⟨⟨Fr_oc f2 a0, m1, ?_, ?_, m2, m3, m4, m5, m6, m7, m8, m9⟩, ⟨m10, by rw [f2.2.1]; exact bt1.2⟩, fun c k1 k2 => ?_, fun h k1 k2 => ?_, m11, m12, m13, m14, m15⟩
  · rw [nI 14 0 (by omega), a2]; exact h6.symm
  · rw [nI 28 0 (by omega), a3]; exact h7.symm
  · exact CalM_fr f2 (fun k i q => by have := q.2; omega) (b2 c k1 (by have : c < v' 6 0 := k2; omega))
  · have hh := b3 h k1 (by have : h < v' 7 0 := k2; omega)
    refine ⟨?_, by rw [nI 27 h (by omega)]; exact hh.2⟩
    obtain ⟨c0, c9, c1, c2, c3, c4, c5, c6, c7, c8⟩ := hh.1
    refine ⟨Fr_oc f2 c0, c9, ?_, fun k k1 k2 => ?_, ?_, fun k k1 k2 => ?_, fun y y1 y2 => ?_, fun m m1 m2 => ?_, fun j j1 j2 => ?_, c8⟩
    · rw [nI _ _ (by omega)]; exact c1
    · rw [nI _ _ (by omega), nI _ _ (by omega)]; exact c2 k k1 k2
    · rw [nI _ _ (by omega)]; exact c3
    · rw [nI _ _ (by omega), nI _ _ (by omega), nI _ _ (by omega)]; exact c4 k k1 k2
    · rw [Fr_J f2 (fun q => by have := q.2; omega)]; exact c5 y y1 y2
    · rw [Fr_J f2 (fun q => by have := q.2; omega)]; exact c6 m m1 m2
    · rw [nI _ _ (by omega)]; exact c7 j j1 j2
/-- asks stay, if no more of them count -/
theorem XQ_k (h : RR x o A σ) (f1 : Fr (fun a _ _ => a = x) σ σ1) (hn : v' 13 0 ≤ aV A 13 0) : XQ x (mkA A v' (aQ A) (aAa A) b') σ1 := by
  intro k k1 k2
  have k2 : k < v' 13 0 := k2
  obtain ⟨q1, q2, q3⟩ := R_q h k1 (by omega)
  have s1 := Fr_sa f1 (b := aAa A k) (fun k' i q => by have c13 := q2.1; rw [q, (R_x h).1] at c13; simp at c13)
  refine ⟨?_, sa_oc s1 q2, fun j hj => ?_⟩
  · show gP σ1 x 12 k = some (aAa A k)
    rw [f1.2.2.1]; exact q1
  · show gI σ1 (aAa A k) j 0 = aQ A j k
    rw [s1.2.2.1]; exact q3 j hj
/-- in between: the model's side alone -/
theorem isDatM (h : RR x o A σ) (s : sa σ σ1 o) (hc : inR c) (hy : inR y) (hm : inR m) (hd : inR d) : f_X6_isDate σ1 o c y m d = some (bI (isD A c y m d)) := by
  have n := R_n h
  have M := RM_sa h.2.2.2 s
  unfold isD
  cases e : isC A c with
  | true =>
    have q := isC_t.mp e
    rw [X6_isDate M.1.1 M.1.2.2.1 q n.1.2 (M.2.2.1 c q.1 q.2) hy hm hd]; rfl
  | false =>
    unfold f_X6_isDate f_X6_stretchOf
    have e2 : f_X6_isCalendar σ1 o c = some (bI (isC A c)) := by rw [X6_isCalendar M.1.1 M.1.2.2.1 n.1.1 n.1.2 hc, b01_B]; rfl
    rw [cO_t M.1.1, cO_t M.1.1, e2]
    refine T_eq.mp ?_
    simp only [T_bind, T_some, T_cEq, bI_R, true_and, bI_0, Bool.not_eq_false]
    refine ⟨fun _ => ⟨by omega, fun _ => rfl, fun q => absurd trivial q⟩, fun q => by rw [e] at q; cases q⟩
theorem dayOM (h : RR x o A σ) (s : sa σ σ1 o) (hd : isD A c y m d = true) : f_X6_dayOf σ1 o c y m d = some (dayC (aC A c) y m d) := by
  have n := R_n h
  have M := RM_sa h.2.2.2 s
  obtain ⟨q, hh⟩ := isD_t.mp hd
  exact X6_dayOf M.1.1 M.1.2.2.1 q n.1.2 (M.2.2.1 c q.1 q.2) hh
theorem x_ne_o (h : RR x o A σ) : ¬ o = x := by
  intro e
  have co := (R_o h).1
  rw [e, (R_x h).1] at co; simp at co
/-- both calls answer alike, and what follows stands -/
def BothT (x o : Nat) (X : Option (Int × St)) (M : St → Option (Int × St)) : Prop := T X (fun r => inR r.1 ∧ T (M r.2) (fun r2 => r2.1 = r.1 ∧ ∃ A', RR x o A' r2.2))
theorem both_q {X : Option (Int × St)} {M : St → Option (Int × St)} {V : Int} (hX : T X (fun r => r.1 = V ∧ RR x o A r.2)) (hM : ∀ σ', RR x o A σ' → T (M σ') (fun r => r.1 = V ∧ RR x o A r.2)) (hR : inR V) : BothT x o X M := by
  refine T_mono hX (fun r ⟨e, h⟩ => ⟨by rw [e]; exact hR, T_mono (hM r.2 h) (fun r2 ⟨e2, h2⟩ => ⟨by rw [e2, e], A, h2⟩)⟩)
theorem O_end (h : RR x o A σ) (hk : inR k) : BothT x o (f_X1_end σ x k) (fun σ' => f_X6_end σ' o k) := by
  have ab := h.2.1.1
  have hM := RMv_of h.2.2.2
  unfold BothT f_X1_end
  rw [cO_t (R_x h), Rv1 h]
  simp only [T_some, T_none, T_ck, T_cLt, T_cEq, T_jLt, T_jEq, T_bind, T_bd2, T_wS, T_cO, T_nnS, T_cNullN, T_cNullS, T_bT1, T_bT2, T_ex, T_ite, T_dC, Sum.elim_inl, Sum.elim_inr]
  refine ⟨by omega, fun z => ⟨by omega, ?_⟩, fun z => ⟨by omega, fun z1 => ⟨by omega, ?_⟩, fun z1 => ⟨by omega, ?_⟩⟩⟩
  · unfold f_X6_end
    rw [cO_t (R_o h)]
    simp only [T_some, T_none, T_ck, T_cLt, T_cEq, T_jLt, T_jEq, T_bind, T_bd2, T_wS, T_cO, T_nnS, T_cNullN, T_cNullS, T_bT1, T_bT2, T_ex, T_ite, T_dC, Sum.elim_inl, Sum.elim_inr]
    exact ⟨by omega, fun _ => ⟨trivial, A, h⟩, fun q => absurd z q⟩
  · unfold f_X6_end
    rw [cO_t (R_o h), hM.1.1]
    simp only [T_some, T_none, T_ck, T_cLt, T_cEq, T_jLt, T_jEq, T_bind, T_bd2, T_wS, T_cO, T_nnS, T_cNullN, T_cNullS, T_bT1, T_bT2, T_ex, T_ite, T_dC, Sum.elim_inl, Sum.elim_inr]
    exact ⟨by omega, fun q => absurd q z, fun _ => ⟨by omega, fun _ => ⟨trivial, A, h⟩, fun q => absurd z1 q⟩⟩
  · have ne := x_ne_o h
    have f1 : Fr (fun a _ _ => a = x) σ (sI σ x 1 0 k) := Fr_sI rfl
    have sO := Fr_sa f1 (b := o) (fun k i q => ne q)
    have gO : gI (sI σ x 1 0 k) o = gI σ o := sO.2.2.1
    unfold f_X6_end
    rw [cO_t (sa_oc sO (R_o h)), gO, hM.1.1]
    simp only [T_some, T_none, T_ck, T_cLt, T_cEq, T_jLt, T_jEq, T_bind, T_bd2, T_wS, T_cO, T_nnS, T_cNullN, T_cNullS, T_bT1, T_bT2, T_ex, T_ite, T_dC, Sum.elim_inl, Sum.elim_inr]
    refine ⟨by omega, fun q => absurd q z, fun _ => ⟨by omega, fun q => absurd q z1, fun _ => ⟨trivial, mkA A (upv (aV A) 1 0 k) (aQ A) (aAa A) (aBy A, aBm A, aBd A), ?_⟩⟩⟩
    have f2 : Fr (fun a k _ => a = o ∧ (k = 1 ∨ k = 2 ∨ 42 ≤ k)) (sI σ x 1 0 k) (sI (sI σ x 1 0 k) o 2 0 k) := Fr_sI ⟨rfl, by omega⟩
    have eo : ∀ j i, ¬ j = 2 → gI (sI (sI σ x 1 0 k) o 2 0 k) o j i = gI σ o j i := fun j i hj => by rw [gI_sI, if_neg (by omega), gO]
    refine RR_upd h f1 f2 rfl rfl (fun j i hj => ?_) (XQ_k h f1 (Int.le_refl _)) ?_ ?_
    · rw [gI_sI]
      unfold upv
      by_cases c : j = 1 ∧ i = 0
      · rw [if_pos ⟨rfl, c⟩, if_pos c]
      · rw [if_neg (fun q => c q.2), if_neg c]; exact R_v h hj
    · obtain ⟨⟨a1, a2, a3, a4, a5, a6, a7, a8, a9⟩, b1, b2, b3, b4, b5, b6, b7, b8, b9⟩ := h.2.1
      exact ⟨⟨a1, a2, a3, a4, a5, ⟨by show 0 ≤ k; omega, by show k ≤ 160; omega⟩, a7, a8, a9⟩, b1, b2, b3, b4, b5, b6, b7, b8, b9⟩
    · obtain ⟨⟨m1, m2, m3, m4, m5, m6, m7, m8, m9⟩, m10, m11, m12, m13, m14, m15⟩ := hM
      refine ⟨⟨by simp only [gI_sI]; simp; rfl, ?_⟩, fun i i1 i2 => ?_, ?_, ?_, ?_, ?_, ?_⟩
      · simp only [eo 49 0 (by omega), eo 54 0 (by omega), eo 63 0 (by omega), eo 56 0 (by omega), eo 57 0 (by omega), eo 64 0 (by omega), eo 65 0 (by omega), eo 69 0 (by omega)]
        exact ⟨m2, m3, m4, m5, m6, m7, m8, m9⟩
      · rw [eo 1 i (by omega)]; exact m10 i i1 (by have i2 : i < k := i2; omega)
      · intro j j1 j2
        simp only [eo 42 j (by omega), eo 43 j (by omega), eo 44 j (by omega), eo 45 j (by omega), eo 46 j (by omega), eo 47 j (by omega), eo 48 j (by omega)]
        exact m11 j j1 j2
      · intro j j1 j2
        simp only [eo 50 j (by omega), eo 51 j (by omega), eo 52 j (by omega), eo 53 j (by omega)]
        exact m12 j j1 j2
      · intro j j1 j2
        simp only [eo 61 j (by omega), eo 62 j (by omega)]
        exact m13 j j1 j2
      · simp only [eo 58 0 (by omega), eo 59 0 (by omega), eo 60 0 (by omega)]; exact m14
      · intro j j1 j2
        simp only [eo 66 j (by omega), eo 67 j (by omega), eo 68 j (by omega)]
        exact m15 j j1 j2
end
