/-! what the relation bears -/
set_option maxRecDepth 100000
section
variable {σ σ' : St} {x o : Nat} {A : AS} {W : Nat → Nat → Int → Prop}
theorem Fr_sa {b : Nat} (f : Fr W σ σ') (hw : ∀ k i, ¬ W b k i) : sa σ σ' b := by
  obtain ⟨a1, a2, a3, a4, a5, a6⟩ := f
  refine ⟨by rw [a1], by rw [a2], ?_, ?_, by rw [a3]⟩
  · funext k i; exact a5 b k i (hw k i)
  · funext k i; exact a6 b k i (hw k i)
theorem XH_sa (h : XH x A σ) (sx : sa σ σ' x) (s4 : ∀ b, cL σ b = some 4 → sa σ σ' b) : XH x A σ' := by
  obtain ⟨h1, h2, h3, h4, h5, h6, h7, h8⟩ := h
  have sD := s4 _ h6.1.1
  have sS := s4 _ h8.1.1
  refine ⟨fun h k1 k2 => ?_, h2, by rw [sx.2.2.2.2]; exact h3, by rw [sx.2.2.2.2]; exact h4, h5, qE_sa sD h6, by rw [sD.2.2.1]; exact h7, qE_sa sS h8⟩
  obtain ⟨c1, c2, c3, c4, c5⟩ := h1 h k1 k2
  have sh := s4 _ c2.1.1
  exact ⟨by rw [sx.2.2.2.2]; exact c1, HeadX_sa sh c2, cac_sa sh c3, by rw [sh.2.2.1]; exact c4, c5⟩
theorem RX_gen (h : RX x A σ) (s : ∀ b, ¬ cL σ b = some 5 → ¬ cL σ b = some 4 → sa σ σ' b) (hH : XH x A σ') : RX x A σ' := by
  obtain ⟨⟨v1, v2⟩, ⟨c1, c2, c3⟩, _, q⟩ := h
  have sx := s x (by rw [v1.1]; simp) (by rw [v1.1]; simp)
  have s3 : ∀ b, (cL σ b = some 1 ∨ cL σ b = some 2 ∨ cL σ b = some 3) → sa σ σ' b := by
    intro b hb
    refine s b (fun q => ?_) (fun q => ?_) <;> rw [q] at hb <;> simp at hb
  refine ⟨⟨sa_oc sx v1, fun k i hk => by rw [sx.2.2.1]; exact v2 k i hk⟩, ⟨fun c k1 k2 => ?_, by rw [sx.2.2.2.2]; exact c2, drA_sa s3 c3⟩, hH, fun k k1 k2 => ?_⟩
  · obtain ⟨d1, d2, d3⟩ := c1 c k1 k2
    exact ⟨by rw [sx.2.2.2.2]; exact d1, CalX_sa s3 d2, below_sa s3 d2 d3⟩
  · obtain ⟨d1, d2, d3⟩ := q k k1 k2
    have sq := s _ (by rw [d2.1]; simp) (by rw [d2.1]; simp)
    exact ⟨by rw [sx.2.2.2.2]; exact d1, sa_oc sq d2, fun j hj => by rw [sq.2.2.1]; exact d3 j hj⟩
theorem RM_sa (h : RM o A σ) (s : sa σ σ' o) : RM o A σ' := by
  have hs := h.1.1
  have ho := sa_oc s hs
  obtain ⟨_, h2, h3, h4, _⟩ := s
  obtain ⟨⟨_, a⟩, b1, b2, b3, b4, b5, b6, b7, b8⟩ := h
  refine ⟨⟨ho, by rw [h3]; exact a⟩, ⟨by rw [h3]; exact b1.1, by rw [h2]; exact b1.2⟩, fun c k1 k2 => ?_, fun h k1 k2 => ?_, by rw [h3]; exact b4, by rw [h3]; exact b5, by rw [h3]; exact b6, by rw [h3]; exact b7, by rw [h3]; exact b8⟩
  · have := b2 c k1 k2
    unfold CalM EraM LepM LepM0 at this ⊢
    rw [h3]
    refine ⟨this.1, this.2.1, fun k k1 k2 => ?_, this.2.2.2⟩
    have t := this.2.2.1 k k1 k2
    exact ⟨⟨⟨ho, t.1.1.2⟩, t.1.2⟩, t.2⟩
  · obtain ⟨c1, c2⟩ := b3 h k1 k2
    unfold HeadM at c1 ⊢
    rw [h3, h4]
    exact ⟨⟨ho, c1.2⟩, c2⟩
theorem RM_sc (h : RM o A σ) (ha : AOK A) (f : Fr (scW o) σ σ') : RM o A σ' := by
  have nI : ∀ k i, ¬ (k = 0 ∨ k = 3 ∨ k = 4 ∨ k = 29 ∨ (32 ≤ k ∧ k ≤ 41) ∨ k = 55 ∨ k = 70 ∨ k = 30) → gI σ' o k i = gI σ o k i := fun k i hk => Fr_I f (fun q => hk (by have := q.2; omega))
  obtain ⟨⟨a0, a1, a2, a3, a4, a5, a6, a7, a8, a9, a10, a11⟩, b1, b2, b3, b4, b5, b6, b7, b8⟩ := h
  have h8 := ha.1.2.1
  refine ⟨⟨Fr_oc f a0, ?_⟩, ?_, fun c k1 k2 => CalM_fr f (fun k i q => by have := q.2; omega) (b2 c k1 k2), fun h k1 k2 => ⟨HeadM_fr f (fun k i q => q.2) (by omega) (b3 h k1 k2).1, ?_⟩, ?_, ?_, ?_, ?_, ?_⟩
  · simp only [nI 2 0 (by omega), nI 14 0 (by omega), nI 28 0 (by omega), nI 49 0 (by omega), nI 54 0 (by omega), nI 63 0 (by omega), nI 56 0 (by omega), nI 57 0 (by omega), nI 64 0 (by omega), nI 65 0 (by omega), nI 69 0 (by omega)]
    exact ⟨a1, a2, a3, a4, a5, a6, a7, a8, a9, a10, a11⟩
  · exact ⟨fun i i1 i2 => by rw [nI _ _ (by omega)]; exact b1.1 i i1 i2, by rw [f.2.1]; exact b1.2⟩
  · rw [nI _ _ (by omega)]; exact (b3 h k1 k2).2
  · intro k k1 k2
    simp only [nI 42 k (by omega), nI 43 k (by omega), nI 44 k (by omega), nI 45 k (by omega), nI 46 k (by omega), nI 47 k (by omega), nI 48 k (by omega)]
    exact b4 k k1 k2
  · intro k k1 k2
    simp only [nI 50 k (by omega), nI 51 k (by omega), nI 52 k (by omega), nI 53 k (by omega)]
    exact b5 k k1 k2
  · intro k k1 k2
    simp only [nI 61 k (by omega), nI 62 k (by omega)]
    exact b6 k k1 k2
  · simp only [nI 58 0 (by omega), nI 59 0 (by omega), nI 60 0 (by omega)]; exact b7
  · intro k k1 k2
    simp only [nI 66 k (by omega), nI 67 k (by omega), nI 68 k (by omega)]
    exact b8 k k1 k2
theorem Fr_WF (f : Fr W σ σ') (h : WF σ) : WF σ' := by
  obtain ⟨a1, _, _, a4, _⟩ := f
  unfold WF at h ⊢
  rw [a1, a4]; exact h
theorem RR_sc (h : RR x o A σ) (f : Fr (scW o) σ σ') : RR x o A σ' := by
  obtain ⟨h1, h2, h3, h4⟩ := h
  have hs : ∀ b, ¬ cL σ b = some 5 → sa σ σ' b := fun b hb => Fr_sa f (fun k i q => by rw [q.1] at hb; exact hb h4.1.1.1)
  have v1 := h3.1.1
  exact ⟨Fr_WF f h1, h2, RX_gen h3 (fun b b1 _ => hs b b1) (XH_sa h3.2.2.1 (hs x (by rw [v1.1]; simp)) (fun b hb => hs b (by rw [hb]; simp))), RM_sc h4 h2 f⟩
theorem RR_cac (h : RR x o A σ) {g y : Int} (g1 : 0 ≤ g) (g2 : g < (aV A 7 0)) (y1 : 1 ≤ y) (y2 : y ≤ 9999) (hf : hL (aH A g) y < 1000000000000) : RR x o A (sI (sI σ (aHa A g) 17 0 y) (aHa A g) 18 0 (kY (aH A g) y)) := by
  obtain ⟨h1, h2, h3, h4⟩ := h
  have hG := h3.2.2.1.1 g g1 g2
  have c4 : cL σ (aHa A g) = some 4 := hG.2.1.1.1
  have f : Fr (fun a k _ => a = aHa A g ∧ (k = 17 ∨ k = 18)) σ (sI (sI σ (aHa A g) 17 0 y) (aHa A g) 18 0 (kY (aH A g) y)) := Fr_t (Fr_sI ⟨rfl, Or.inl rfl⟩) (Fr_sI ⟨rfl, Or.inr rfl⟩)
  have hs : ∀ b, ¬ b = aHa A g → sa σ (sI (sI σ (aHa A g) 17 0 y) (aHa A g) 18 0 (kY (aH A g) y)) b := fun b hb => Fr_sa f (fun k i q => hb q.1)
  have ne : ∀ b c, cL σ b = some c → ¬ c = 4 → ¬ b = aHa A g := fun b c hb hc e => by rw [e, c4] at hb; exact hc (Option.some.inj hb).symm
  refine ⟨Fr_WF f h1, h2, RX_gen h3 (fun b _ b4 => hs b (fun e => b4 (by rw [e]; exact c4))) ?_, RM_sa h4 (hs o (ne o 5 h4.1.1.1 (by omega)))⟩
  have sx := hs x (ne x 0 h3.1.1.1 (by omega))
  obtain ⟨e1, e2, e3, e4, e5, e6, e7, e8⟩ := h3.2.2.1
  have sD := hs (aDh A) (fun e => hG.2.2.2.2.1 e.symm)
  have sS := hs (aSk A) (fun e => hG.2.2.2.2.2 e.symm)
  refine ⟨fun h k1 k2 => ?_, e2, by rw [sx.2.2.2.2]; exact e3, by rw [sx.2.2.2.2]; exact e4, e5, qE_sa sD e6, by rw [sD.2.2.1]; exact e7, qE_sa sS e8⟩
  obtain ⟨d1, d2, d3, d4, d5⟩ := e1 h k1 k2
  by_cases c : h = g
  · subst c
    refine ⟨by rw [sx.2.2.2.2]; exact d1, ?_, Or.inr ?_, ?_, d5⟩
    · have nI : ∀ k i, ¬ (k = 17 ∨ k = 18) → gI (sI (sI σ (aHa A h) 17 0 y) (aHa A h) 18 0 (kY (aH A h) y)) (aHa A h) k i = gI σ (aHa A h) k i := fun k i hk => Fr_I f (fun q => hk q.2)
      obtain ⟨b0, b1, b2, b3, b4, b5, b6, b7, b8⟩ := d2
      refine ⟨Fr_oc f b0, ?_, fun k k1 k2 => ?_, ?_, fun k k1 k2 => ?_, b5, b6, fun j j1 j2 => ?_, b8⟩
      · rw [nI _ _ (by omega)]; exact b1
      · rw [nI _ _ (by omega), nI _ _ (by omega)]; exact b2 k k1 k2
      · rw [nI _ _ (by omega)]; exact b3
      · rw [nI _ _ (by omega), nI _ _ (by omega), nI _ _ (by omega)]; exact b4 k k1 k2
      · rw [nI _ _ (by omega)]; exact b7 j j1 j2
    · simp only [gI_sI, gI_sJ, gI_sP, gI_cpI, gJ_sI, gJ_sJ, gJ_sP, gJ_cpI, gP_sI, gP_sJ, gP_sP, gP_cpI, cL_sI, cL_sJ, cL_sP, cL_cpI, aR_sI, aR_sJ, aR_sP, aR_cpI, nX_sI, nX_sJ, nX_sP, nX_cpI, oc_sIe, oc_sJe, oc_sPe, oc_cpIe]; simp; exact ⟨⟨y1, y2⟩, hf⟩
    · rw [Fr_I f (by simp)]; exact d4
  · have sh := hs (aHa A h) (e2 h g k1 k2 g1 g2 c)
    exact ⟨by rw [sx.2.2.2.2]; exact d1, HeadX_sa sh d2, cac_sa sh d3, by rw [sh.2.2.1]; exact d4, d5⟩
end
