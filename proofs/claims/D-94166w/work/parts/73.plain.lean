/-! ask, weigh -/
set_option maxRecDepth 100000
section
variable {σ σ1 σ2 : St} {x o a b : Nat} {A A' : AS} {g c y m d v k s p w i : Int} {v' q' : Nat → Int → Int} {aa' : Int → Nat} {b' : Int × Int × Int}
theorem WF_ne (hw : WF σ) {b c : Nat} (hb : cL σ b = some c) : b < nX σ := by
  by_cases q : b < nX σ
  · exact q
  · rw [hw b (by omega)] at hb; cases hb
theorem RR_upd2 (h : RR x o A σ) (s1 : ∀ b, b < nX σ → ¬ b = x → sa σ σ1 b) (ox : oc σ1 x 0) (gp1 : ∀ k i, ¬ k = 12 → gP σ1 x k i = gP σ x k i) (w1 : WF σ1) (f2 : Fr (fun a k _ => a = o ∧ (k = 1 ∨ k = 2 ∨ 42 ≤ k)) σ1 σ2) (h6 : v' 6 0 = aV A 6 0) (h7 : v' 7 0 = aV A 7 0) (hv : ∀ k i, ¬ (k = 8 ∨ k = 11 ∨ k = 21) → gI σ1 x k i = v' k i) (hq : XQ x (mkA A v' q' aa' b') σ1) (ha : AOK (mkA A v' q' aa' b')) (hm : RMv o (mkA A v' q' aa' b') σ2) : RR x o (mkA A v' q' aa' b') σ2 := by
  obtain ⟨hw, hA, hX, hM⟩ := h
  have cx := hX.1.1.1
  have co := hM.1.1.1
  have ne : ¬ o = x := by intro e; rw [e, cx] at co; simp at co
  have s2 : ∀ b, ¬ b = o → sa σ1 σ2 b := fun b hb => Fr_sa f2 (fun k i q => hb q.1)
  have nx : ∀ b c, cL σ b = some c → ¬ c = 0 → ¬ b = x := fun b c hb hc e => by rw [e, cx] at hb; exact hc (Option.some.inj hb).symm
  have sc : ∀ b c, cL σ b = some c → ¬ c = 0 → sa σ σ1 b := fun b c hb hc => s1 b (WF_ne hw hb) (nx b c hb hc)
  have s3 : ∀ b, (cL σ b = some 1 ∨ cL σ b = some 2 ∨ cL σ b = some 3) → sa σ σ1 b := by
    intro b hb
    rcases hb with q | q | q
    · exact sc b 1 q (by omega)
    · exact sc b 2 q (by omega)
    · exact sc b 3 q (by omega)
  have X1 : RX x (mkA A v' q' aa' b') σ1 := by
    obtain ⟨⟨v1, v2⟩, ⟨c1, c2, c3⟩, ⟨e1, e2, e3, e4, e5, e6, e7, e8⟩, q⟩ := hX
    refine ⟨⟨ox, hv⟩, ⟨fun c k1 k2 => ?_, by rw [gp1 2 0 (by omega)]; exact c2, drA_sa s3 c3⟩, ⟨fun h k1 k2 => ?_, fun g h g1 g2 h1 h2 n => e2 g h g1 (by have : v' 7 0 = _ := h7; have g2 : g < v' 7 0 := g2; omega) h1 (by have : v' 7 0 = _ := h7; have h2 : h < v' 7 0 := h2; omega) n, by rw [gp1 3 0 (by omega)]; exact e3, by rw [gp1 22 0 (by omega)]; exact e4, e5, qE_sa (sc _ 4 e6.1.1 (by omega)) e6, ?_, qE_sa (sc _ 4 e8.1.1 (by omega)) e8⟩, hq⟩
    · have k2' : c < aV A 6 0 := by have : c < v' 6 0 := k2; omega
      obtain ⟨d1, d2, d3⟩ := c1 c k1 k2'
      exact ⟨by rw [gp1 4 c (by omega)]; exact d1, CalX_sa s3 d2, below_sa s3 d2 d3⟩
    · have k2' : h < aV A 7 0 := by have : h < v' 7 0 := k2; omega
      obtain ⟨d1, d2, d3, d4, d5⟩ := e1 h k1 k2'
      have sh := sc _ 4 d2.1.1 (by omega)
      exact ⟨by rw [gp1 5 h (by omega)]; exact d1, HeadX_sa sh d2, cac_sa sh d3, by show gI σ1 (aHa A h) 16 0 = aW A h; rw [sh.2.2.1]; exact d4, d5⟩
    · have sD := sc _ 4 e6.1.1 (by omega)
      rw [show gI σ1 (aDh (mkA A v' q' aa' b')) 16 0 = gI σ (aDh A) 16 0 from by show gI σ1 (aDh A) 16 0 = _; rw [sD.2.2.1]]; exact e7
  have sO := sc o 5 co (by omega)
  have co1 : cL σ1 o = some 5 := by rw [sO.1]; exact co
  refine ⟨Fr_WF f2 w1, ha, RX_gen X1 (fun b b1 _ => s2 b (fun e => b1 (by rw [e]; exact co1))) (XH_sa X1.2.2.1 (s2 x (fun e => ne e.symm)) (fun b hb => s2 b (fun e => by rw [e, co1] at hb; simp at hb))), ?_⟩
  have M1 := RM_sa hM sO
  obtain ⟨⟨a0, a1, a2, a3, _⟩, bt1, b2, b3, _⟩ := M1
  obtain ⟨⟨m1, m2, m3, m4, m5, m6, m7, m8, m9⟩, m10, m11, m12, m13, m14, m15⟩ := hm
  have nI : ∀ k i, ¬ (k = 1 ∨ k = 2 ∨ 42 ≤ k) → gI σ2 o k i = gI σ1 o k i := fun k i hk => Fr_I f2 (fun q => hk q.2)
  refine ⟨⟨Fr_oc f2 a0, m1, ?_, ?_, m2, m3, m4, m5, m6, m7, m8, m9⟩, ⟨m10, by rw [f2.2.1]; exact bt1.2⟩, fun c k1 k2 => ?_, fun h k1 k2 => ?_, m11, m12, m13, m14, m15⟩
  · rw [nI 14 0 (by omega), a2]; exact h6.symm
  · rw [nI 28 0 (by omega), a3]; exact h7.symm
  · exact CalM_fr f2 (fun k i q => by have := q.2; omega) (b2 c k1 (by have : c < v' 6 0 := k2; omega))
  · have hh := b3 h k1 (by have : h < v' 7 0 := k2; omega)
    refine ⟨?_, by rw [nI 27 h (by omega)]; exact hh.2⟩
    obtain ⟨c0, c9, c1, c2, c3, c4, c5, c6, c7, c8⟩ := hh.1
    refine ⟨Fr_oc f2 c0, c9, ?_, fun k k1 k2 => ?_, ?_, fun k k1 k2 => ?_, fun y y1 y2 => ?_, fun m m1 m2 => ?_, fun j j1 j2 => ?_, c8⟩
    · rw [nI _ _ (by omega)]; exact c1
    · rw [nI _ _ (by omega), nI _ _ (by omega)]; exact c2 k k1 k2
    · rw [nI _ _ (by omega)]; exact c3
    · rw [nI _ _ (by omega), nI _ _ (by omega), nI _ _ (by omega)]; exact c4 k k1 k2
    · rw [Fr_J f2 (fun q => by have := q.2; omega)]; exact c5 y y1 y2
    · rw [Fr_J f2 (fun q => by have := q.2; omega)]; exact c6 m m1 m2
    · rw [nI _ _ (by omega)]; exact c7 j j1 j2
theorem sa_t {b : Nat} (h1 : sa σ σ1 b) (h2 : sa σ1 σ2 b) : sa σ σ2 b := ⟨h2.1.trans h1.1, h2.2.1.trans h1.2.1, h2.2.2.1.trans h1.2.2.1, h2.2.2.2.1.trans h1.2.2.2.1, h2.2.2.2.2.trans h1.2.2.2.2⟩
theorem sa_nO {b c : Nat} (hb : b < nX σ) : sa σ (nO σ c) b := by
  have ne : ¬ b = nX σ := by omega
  refine ⟨by rw [cL_nO, if_neg ne], ?_, ?_, ?_, ?_⟩
  · funext k; rw [aR_nO, if_neg ne]
  · funext k i; rw [gI_nO, if_neg ne]
  · funext k i; rw [gJ_nO, if_neg ne]
  · funext k i; rw [gP_nO, if_neg ne]
theorem sa_sI {b a' k' : Nat} {i' w' : Int} (hb : ¬ b = a') : sa σ (sI σ a' k' i' w') b := Fr_sa (W := fun a _ _ => a = a') (Fr_sI rfl) (fun k i q => hb q)
theorem sa_sP {b a' k' : Nat} {i' : Int} {w' : Option Nat} (hb : ¬ b = a') : sa σ (sP σ a' k' i' w') b := by
  refine ⟨rfl, rfl, rfl, rfl, ?_⟩
  funext k i; rw [gP_sP, if_neg (fun q => hb q.1)]
theorem AOK_q {vv qq : Nat → Int → Int} {aa : Int → Nat} (h : AOK A) (vo : ∀ j i, ¬ j = 13 → vv j i = aV A j i) (n13 : vv 13 0 = aV A 13 0 + 1) (n60 : vv 13 0 ≤ 60) (qo : ∀ j k, ¬ k = aV A 13 0 → qq j k = aQ A j k) (hn : dateOK A (qq 1 (aV A 13 0)) (qq 2 (aV A 13 0)) (qq 3 (aV A 13 0)) (qq 4 (aV A 13 0)) ∧ qq 5 (aV A 13 0) = dayC (aC A (qq 1 (aV A 13 0))) (qq 2 (aV A 13 0)) (qq 3 (aV A 13 0)) (qq 4 (aV A 13 0)) ∧ (0 ≤ qq 0 (aV A 13 0) ∧ qq 0 (aV A 13 0) ≤ 999) ∧ (0 ≤ qq 6 (aV A 13 0) ∧ qq 6 (aV A 13 0) ≤ 6) ∧ (0 ≤ qq 7 (aV A 13 0) ∧ qq 7 (aV A 13 0) ≤ 9999)) (hmo : 0 < aV A 13 0 → aQ A 0 (aV A 13 0 - 1) ≤ qq 0 (aV A 13 0)) : AOK (mkA A vv qq aa (aBy A, aBm A, aBd A)) := by
  obtain ⟨⟨a1, a2, a3, a4, a5, a6, a7, a8, a9⟩, b1, b2, b3, b4, b5, b6, b7, b8, b9⟩ := h
  have o6 := vo 6 0 (by omega)
  have cc : ∀ (c1 y1 m1 d1 : Int), dateOK A c1 y1 m1 d1 → dateOK (mkA A vv qq aa (aBy A, aBm A, aBd A)) c1 y1 m1 d1 := fun c1 y1 m1 d1 q => ⟨⟨q.1.1, by show c1 < vv 6 0; rw [o6]; exact q.1.2⟩, q.2⟩
  refine ⟨⟨?_, ?_, ?_, ?_, ?_, ?_, ?_, ?_, ?_⟩, fun i i1 i2 => ?_, fun p p1 p2 => ?_, fun k k1 k2 => ?_, fun j k j1 j2 j3 => ?_, fun k k1 k2 => ?_, ?_, fun i i1 i2 => ?_, fun k k1 k2 => ?_, ?_⟩
  · show 0 ≤ vv 6 0 ∧ vv 6 0 ≤ 6; rw [o6]; exact a1
  · show 0 ≤ vv 7 0 ∧ vv 7 0 ≤ 8; rw [vo 7 0 (by omega)]; exact a2
  · show 0 ≤ vv 13 0 ∧ vv 13 0 ≤ 60; omega
  · show 0 ≤ vv 20 0 ∧ vv 20 0 ≤ 8; rw [vo 20 0 (by omega)]; exact a4
  · show 0 ≤ vv 25 0 ∧ vv 25 0 ≤ 30; rw [vo 25 0 (by omega)]; exact a5
  · show 0 ≤ vv 1 0 ∧ vv 1 0 ≤ 160; rw [vo 1 0 (by omega)]; exact a6
  · show 0 ≤ vv 10 0 ∧ vv 10 0 ≤ 160; rw [vo 10 0 (by omega)]; exact a7
  · show 0 ≤ vv 26 0 ∧ vv 26 0 ≤ vv 13 0; rw [vo 26 0 (by omega)]; omega
  · show 0 ≤ vv 27 0 ∧ vv 27 0 ≤ vv 25 0; rw [vo 27 0 (by omega), vo 25 0 (by omega)]; exact a9
  · show -128 ≤ vv 0 i ∧ vv 0 i ≤ 127; rw [vo 0 i (by omega)]; exact b1 i i1 i2
  · have p2 : p < vv 20 0 := p2
    rw [vo 20 0 (by omega)] at p2
    show dateOK _ (vv 16 p) (vv 17 p) (vv 18 p) (vv 19 p)
    rw [vo 16 p (by omega), vo 17 p (by omega), vo 18 p (by omega), vo 19 p (by omega)]
    exact cc _ _ _ _ (b2 p p1 p2)
  · have k2 : k < vv 13 0 := k2
    show dateOK _ (qq 1 k) (qq 2 k) (qq 3 k) (qq 4 k) ∧ qq 5 k = dayC (aC A (qq 1 k)) (qq 2 k) (qq 3 k) (qq 4 k) ∧ (0 ≤ qq 0 k ∧ qq 0 k ≤ 999) ∧ (0 ≤ qq 6 k ∧ qq 6 k ≤ 6) ∧ (0 ≤ qq 7 k ∧ qq 7 k ≤ 9999)
    by_cases c : k = aV A 13 0
    · rw [c]; exact ⟨cc _ _ _ _ hn.1, hn.2⟩
    · rw [qo 0 k c, qo 1 k c, qo 2 k c, qo 3 k c, qo 4 k c, qo 5 k c, qo 6 k c, qo 7 k c]
      exact ⟨cc _ _ _ _ (b3 k k1 (by omega)).1, (b3 k k1 (by omega)).2⟩
  · have j3 : k < vv 13 0 := j3
    show qq 0 j ≤ qq 0 k
    by_cases c : k = aV A 13 0
    · by_cases c2 : j = aV A 13 0
      · rw [c, c2]; exact Int.le_refl _
      · rw [qo 0 j c2, c]
        have := hmo (by omega)
        have := b4 j (aV A 13 0 - 1) j1 (by omega) (by omega)
        omega
    · rw [qo 0 k c, qo 0 j (by omega)]
      exact b4 j k j1 j2 (by omega)
  · have k2 : k < vv 25 0 := k2
    rw [vo 25 0 (by omega)] at k2
    show (0 ≤ vv 23 k ∧ vv 23 k ≤ 19000000) ∧ (0 ≤ vv 24 k ∧ vv 24 k ≤ 3)
    rw [vo 23 k (by omega), vo 24 k (by omega)]; exact b5 k k1 k2
  · show vv 14 0 = -1 ∨ (dateOK (mkA A vv qq aa (aBy A, aBm A, aBd A)) (vv 15 0) (aBy A) (aBm A) (aBd A) ∧ vv 14 0 = dayC (aC A (vv 15 0)) (aBy A) (aBm A) (aBd A))
    rw [vo 14 0 (by omega), vo 15 0 (by omega)]
    rcases b6 with q | q
    · exact Or.inl q
    · exact Or.inr ⟨cc _ _ _ _ q.1, q.2⟩
  · have i2 : i < 3 * vv 10 0 := i2
    rw [vo 10 0 (by omega)] at i2
    show inR (vv 9 i); rw [vo 9 i (by omega)]; exact b7 i i1 i2
  · have k2 : k < vv 7 0 := k2
    rw [vo 7 0 (by omega)] at k2
    exact b8 k k1 k2
  · show inR (vv 15 0); rw [vo 15 0 (by omega)]; exact b9
theorem RMv_q {vv qq : Nat → Int → Int} {aa : Int → Nat} (hM : RMv o A σ) (eo : ∀ j i, ¬ (42 ≤ j ∧ j ≤ 49) → gI σ2 o j i = gI σ o j i) (vo : ∀ j i, ¬ j = 13 → vv j i = aV A j i) (k49 : gI σ2 o 49 0 = vv 13 0) (hq : ∀ k, 0 ≤ k → k < vv 13 0 → gI σ2 o 42 k = qq 0 k ∧ gI σ2 o 43 k = qq 1 k ∧ gI σ2 o 44 k = qq 2 k ∧ gI σ2 o 45 k = qq 3 k ∧ gI σ2 o 46 k = qq 4 k ∧ gI σ2 o 47 k = qq 6 k ∧ gI σ2 o 48 k = qq 7 k) : RMv o (mkA A vv qq aa (aBy A, aBm A, aBd A)) σ2 := by
  obtain ⟨⟨m1, m2, m3, m4, m5, m6, m7, m8, m9⟩, m10, m11, m12, m13, m14, m15⟩ := hM
  refine ⟨⟨?_, k49, ?_, ?_, ?_, ?_, ?_, ?_, ?_⟩, fun i i1 i2 => ?_, hq, fun j j1 j2 => ?_, fun j j1 j2 => ?_, ?_, fun j j1 j2 => ?_⟩
  · rw [eo 2 0 (by omega)]; show _ = vv 1 0; rw [vo 1 0 (by omega)]; exact m1
  · rw [eo 54 0 (by omega)]; show _ = vv 20 0; rw [vo 20 0 (by omega)]; exact m3
  · rw [eo 63 0 (by omega)]; show _ = vv 25 0; rw [vo 25 0 (by omega)]; exact m4
  · rw [eo 56 0 (by omega)]; show _ = vv 14 0; rw [vo 14 0 (by omega)]; exact m5
  · rw [eo 57 0 (by omega)]; show _ = vv 15 0; rw [vo 15 0 (by omega)]; exact m6
  · rw [eo 64 0 (by omega)]; show _ = vv 26 0; rw [vo 26 0 (by omega)]; exact m7
  · rw [eo 65 0 (by omega)]; show _ = vv 27 0; rw [vo 27 0 (by omega)]; exact m8
  · rw [eo 69 0 (by omega)]; show _ = vv 10 0; rw [vo 10 0 (by omega)]; exact m9
  · have i2 : i < vv 1 0 := i2
    rw [vo 1 0 (by omega)] at i2
    rw [eo 1 i (by omega)]; show _ = vv 0 i % 256; rw [vo 0 i (by omega)]; exact m10 i i1 i2
  · have j2 : j < vv 20 0 := j2
    rw [vo 20 0 (by omega)] at j2
    simp only [eo 50 j (by omega), eo 51 j (by omega), eo 52 j (by omega), eo 53 j (by omega)]
    show _ = vv 16 j ∧ _ = vv 17 j ∧ _ = vv 18 j ∧ _ = vv 19 j
    rw [vo 16 j (by omega), vo 17 j (by omega), vo 18 j (by omega), vo 19 j (by omega)]
    exact m12 j j1 j2
  · have j2 : j < vv 25 0 := j2
    rw [vo 25 0 (by omega)] at j2
    simp only [eo 61 j (by omega), eo 62 j (by omega)]
    show _ = vv 23 j ∧ _ = vv 24 j
    rw [vo 23 j (by omega), vo 24 j (by omega)]
    exact m13 j j1 j2
  · simp only [eo 58 0 (by omega), eo 59 0 (by omega), eo 60 0 (by omega)]
    intro q
    have q : ¬ vv 14 0 = -1 := q
    rw [vo 14 0 (by omega)] at q
    exact m14 q
  · have j2 : j < vv 10 0 := j2
    rw [vo 10 0 (by omega)] at j2
    simp only [eo 66 j (by omega), eo 67 j (by omega), eo 68 j (by omega)]
    show _ = vv 9 (3 * j) ∧ (¬ vv 9 (3 * j) = -1 → _ = vv 9 (3 * j + 1) ∧ _ = vv 9 (3 * j + 2)) ∧ _
    rw [vo 9 (3 * j) (by omega), vo 9 (3 * j + 1) (by omega), vo 9 (3 * j + 2) (by omega)]
    exact m15 j j1 j2
end
