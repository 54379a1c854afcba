/-! weigh; day; calls that only look, as pairs -/
set_option maxRecDepth 100000
section
variable {σ σ1 σ2 : St} {x o a b : Nat} {A A' : AS} {g c y m d v k s p w i mo an te : Int}
def wtA (A : AS) (g w : Int) : AS := (A.1, A.2.1, A.2.2.1, A.2.2.2.1, A.2.2.2.2.1, (fun h => if h = g then w else aW A h), A.2.2.2.2.2.2)
theorem O_weigh (h : RR x o A σ) (hg : inR g) (hw : inR w) : BothT x o (f_X1_weigh σ x g w) (fun σ' => f_X6_weigh σ' o g w) := by
  have n := R_n h
  have ne := x_ne_o h
  have same : (isH A g = false ∨ isB w 1 9 = false) → T (f_X6_weigh σ o g w) (fun r2 => r2.1 = 0 ∧ ∃ A', RR x o A' r2.2) := by
    intro hh
    unfold f_X6_weigh
    rw [cO_t (R_o h)]
    simp only [T_bind, T_some, T_cEq, bI_R, true_and, bI_0, Bool.not_eq_false, X6_isHead h hg, X6_isB hw (by omega : inR 1) (by omega : inR 9)]
    refine ⟨fun e => ⟨A, h⟩, fun e => ⟨fun e1 => ⟨A, h⟩, fun e1 => ?_⟩⟩
    rcases hh with q | q
    · rw [e] at q; cases q
    · rw [e1] at q; cases q
  unfold BothT f_X1_weigh
  rw [cO_t (R_x h)]
  simp only [T_bind, T_some, T_cEq, bI_R, true_and, bI_0, Bool.not_eq_false, X1_isHead h hg, T_ck, X1_isB (by omega : inL w) (by omega : inL 1) (by omega : inL 9)]
  refine ⟨fun e => ⟨by omega, same (Or.inl e)⟩, fun e => ⟨hw, fun e1 => ⟨by omega, same (Or.inr e1)⟩, fun e1 => ?_⟩⟩
  have q := isH_t.mp e
  have wb := isB_t.mp e1
  obtain ⟨p1, p2, p3⟩ := R_head h q.1 q.2
  have hG := h.2.2.1.2.2.1.1 g q.1 q.2
  have c4 : cL σ (aHa A g) = some 4 := p2.1.1
  rw [p1]
  simp only [T_nnS, T_cO, T_wS, T_some]
  refine ⟨by omega, p2.1, by omega, ?_⟩
  have neo : ¬ o = aHa A g := fun e2 => by have := (R_o h).1; rw [e2, c4] at this; simp at this
  have nex : ¬ x = aHa A g := fun e2 => by have := (R_x h).1; rw [e2, c4] at this; simp at this
  have f1 : Fr (fun a k _ => a = aHa A g ∧ k = 16) σ (sI σ (aHa A g) 16 0 w) := Fr_sI ⟨rfl, rfl⟩
  have sO : sa σ (sI σ (aHa A g) 16 0 w) o := sa_sI neo
  have m28 : gI (sI σ (aHa A g) 16 0 w) o 28 0 = (aV A 7 0) := by rw [sO.2.2.1]; exact R_nh h
  have e6 : f_X6_isHead (sI σ (aHa A g) 16 0 w) o g = some (bI (isH A g)) := by
    unfold f_X6_isHead
    rw [cO_t (sa_oc sO (R_o h)), m28, X6_isB hg (by omega) (by omega)]
    refine T_eq.mp ?_
    simp only [T_some, T_none, T_ck, T_cLt, T_cEq, T_jLt, T_jEq, T_bind, T_bd2, T_wS, T_cO, T_nnS, T_cNullN, T_cNullS, T_bT1, T_bT2, T_ex, T_ite, T_dC, Sum.elim_inl, Sum.elim_inr]
    refine ⟨bI_b _, ?_⟩
    unfold isB isH
    have e : (0 ≤ g ∧ g ≤ (aV A 7 0) - 1) ↔ (0 ≤ g ∧ g < (aV A 7 0)) := by omega
    simp only [e]
  unfold f_X6_weigh
  rw [cO_t (sa_oc sO (R_o h)), e6]
  simp only [T_bind, T_some, T_cEq, bI_R, true_and, bI_0, Bool.not_eq_false, X6_isB hw (by omega : inR 1) (by omega : inR 9), T_ck, T_wS]
  refine ⟨fun z => (by rw [e] at z; cases z), fun _ => ⟨fun z => (by rw [e1] at z; cases z), fun _ => ⟨by omega, wtA A g w, ?_⟩⟩⟩
  obtain ⟨hwf, hA, hX, hM⟩ := h
  have f2 : Fr (fun a k _ => a = o ∧ k = 27) (sI σ (aHa A g) 16 0 w) (sI (sI σ (aHa A g) 16 0 w) o 27 g w) := Fr_sI ⟨rfl, rfl⟩
  have sb : ∀ b, ¬ b = aHa A g → ¬ b = o → sa σ (sI (sI σ (aHa A g) 16 0 w) o 27 g w) b := fun b h1 h2 => sa_t (sa_sI h1) (sa_sI h2)
  have sx := sb x nex (fun e => ne e.symm)
  refine ⟨Fr_WF f2 (Fr_WF f1 hwf), ?_, ?_, ?_⟩
  · obtain ⟨a1, b1, b2, b3, b4, b5, b6, b7, b8, b9⟩ := hA
    refine ⟨a1, b1, b2, b3, b4, b5, b6, b7, fun k k1 k2 => ?_, b9⟩
    show 1 ≤ (if k = g then w else aW A k) ∧ (if k = g then w else aW A k) ≤ 9
    split
    · omega
    · exact b8 k k1 k2
  · have X1 : RX x A σ := hX
    have hXH : XH x (wtA A g w) (sI (sI σ (aHa A g) 16 0 w) o 27 g w) := by
      obtain ⟨e1', e2, e3, e4, e5, e6', e7, e8⟩ := X1.2.2.1
      have sD := sb (aDh A) (fun e => hG.2.2.2.2.1 e.symm) (fun e => by have := e6'.1.1; rw [e, hM.1.1.1] at this; simp at this)
      have sS := sb (aSk A) (fun e => hG.2.2.2.2.2 e.symm) (fun e => by have := e8.1.1; rw [e, hM.1.1.1] at this; simp at this)
      refine ⟨fun h k1 k2 => ?_, e2, by rw [sx.2.2.2.2]; exact e3, by rw [sx.2.2.2.2]; exact e4, e5, qE_sa sD e6', ?_, qE_sa sS e8⟩
      · obtain ⟨d1, d2, d3, d4, d5⟩ := e1' h k1 k2
        show gP _ x 5 h = some (aHa A h) ∧ HeadX _ (aHa A h) (aH A h) ∧ cacOK _ (aHa A h) (aH A h) ∧ gI _ (aHa A h) 16 0 = (if h = g then w else aW A h) ∧ ¬ aHa A h = aDh A ∧ ¬ aHa A h = aSk A
        by_cases c : h = g
        · subst c
          have so : sa (sI σ (aHa A h) 16 0 w) (sI (sI σ (aHa A h) 16 0 w) o 27 h w) (aHa A h) := sa_sI (fun e => neo e.symm)
          refine ⟨by rw [sx.2.2.2.2]; exact d1, HeadX_sa so ?_, cac_sa so ?_, ?_, d5⟩
          · have nI : ∀ k i, ¬ k = 16 → gI (sI σ (aHa A h) 16 0 w) (aHa A h) k i = gI σ (aHa A h) k i := fun k i hk => Fr_I f1 (fun q => hk q.2)
            obtain ⟨b0, b1, b2, b3, b4, b5, b6, b7, b8⟩ := d2
            refine ⟨Fr_oc f1 b0, ?_, fun k k1 k2 => ?_, ?_, fun k k1 k2 => ?_, b5, b6, fun j j1 j2 => ?_, b8⟩
            · rw [nI _ _ (by omega)]; exact b1
            · rw [nI _ _ (by omega), nI _ _ (by omega)]; exact b2 k k1 k2
            · rw [nI _ _ (by omega)]; exact b3
            · rw [nI _ _ (by omega), nI _ _ (by omega), nI _ _ (by omega)]; exact b4 k k1 k2
            · rw [nI _ _ (by omega)]; exact b7 j j1 j2
          · have nI : ∀ k i, ¬ k = 16 → gI (sI σ (aHa A h) 16 0 w) (aHa A h) k i = gI σ (aHa A h) k i := fun k i hk => Fr_I f1 (fun q => hk q.2)
            unfold cacOK at d3 ⊢
            rw [nI 17 0 (by omega), nI 18 0 (by omega)]; exact d3
          · rw [so.2.2.1, gI_sI, if_pos ⟨rfl, rfl, rfl⟩, if_pos rfl]
        · have sh := sb (aHa A h) (e2 h g k1 k2 q.1 q.2 c) (fun e => by have := d2.1.1; rw [e, hM.1.1.1] at this; simp at this)
          rw [if_neg c]
          exact ⟨by rw [sx.2.2.2.2]; exact d1, HeadX_sa sh d2, cac_sa sh d3, by rw [sh.2.2.1]; exact d4, d5⟩
      · show gI _ (aDh A) 16 0 = 1
        rw [sD.2.2.1]; exact e7
    obtain ⟨⟨v1, v2⟩, ⟨c1, c2, c3⟩, _, qq⟩ := X1
    have s3 : ∀ b, (cL σ b = some 1 ∨ cL σ b = some 2 ∨ cL σ b = some 3) → sa σ (sI (sI σ (aHa A g) 16 0 w) o 27 g w) b := fun b hb => sb b (fun e => by rw [e, c4] at hb; simp at hb) (fun e => by rw [e, hM.1.1.1] at hb; simp at hb)
    refine ⟨⟨sa_oc sx v1, fun k i hk => by rw [sx.2.2.1]; exact v2 k i hk⟩, ⟨fun c k1 k2 => ?_, by rw [sx.2.2.2.2]; exact c2, drA_sa s3 c3⟩, hXH, fun k k1 k2 => ?_⟩
    · obtain ⟨d1, d2, d3⟩ := c1 c k1 k2
      exact ⟨by rw [sx.2.2.2.2]; exact d1, CalX_sa s3 d2, below_sa s3 d2 d3⟩
    · obtain ⟨d1, d2, d3⟩ := qq k k1 k2
      have sq := sb (aAa A k) (fun e => by have := d2.1; rw [e, c4] at this; simp at this) (fun e => by have := d2.1; rw [e, hM.1.1.1] at this; simp at this)
      exact ⟨by rw [sx.2.2.2.2]; exact d1, sa_oc sq d2, fun j hj => by show gI _ (aAa A k) j 0 = _; rw [sq.2.2.1]; exact d3 j hj⟩
  · have M1 := RM_sa hM sO
    have nI : ∀ k i, ¬ k = 27 → gI (sI (sI σ (aHa A g) 16 0 w) o 27 g w) o k i = gI (sI σ (aHa A g) 16 0 w) o k i := fun k i hk => Fr_I f2 (fun q => hk q.2)
    obtain ⟨⟨a0, a1, a2, a3, a4, a5, a6, a7, a8, a9, a10, a11⟩, b1, b2, b3, b4, b5, b6, b7, b8⟩ := M1
    refine ⟨⟨Fr_oc f2 a0, ?_⟩, ?_, fun c k1 k2 => CalM_fr f2 (fun k i q => by have := q.2; omega) (b2 c k1 k2), fun h k1 k2 => ⟨?_, ?_⟩, ?_, ?_, ?_, ?_, ?_⟩
    · simp only [nI 2 0 (by omega), nI 14 0 (by omega), nI 28 0 (by omega), nI 49 0 (by omega), nI 54 0 (by omega), nI 63 0 (by omega), nI 56 0 (by omega), nI 57 0 (by omega), nI 64 0 (by omega), nI 65 0 (by omega), nI 69 0 (by omega)]
      exact ⟨a1, a2, a3, a4, a5, a6, a7, a8, a9, a10, a11⟩
    · exact ⟨fun i i1 i2 => by rw [nI _ _ (by omega)]; exact b1.1 i i1 i2, by rw [f2.2.1]; exact b1.2⟩
    · obtain ⟨c0, c9, c1, c2, c3, c4, c5, c6, c7, c8⟩ := (b3 h k1 k2).1
      refine ⟨Fr_oc f2 c0, c9, ?_, fun k k1 k2 => ?_, ?_, fun k k1 k2 => ?_, fun y y1 y2 => ?_, fun m m1 m2 => ?_, fun j j1 j2 => ?_, c8⟩
      · rw [nI _ _ (by omega)]; exact c1
      · rw [nI _ _ (by omega), nI _ _ (by omega)]; exact c2 k k1 k2
      · rw [nI _ _ (by omega)]; exact c3
      · rw [nI _ _ (by omega), nI _ _ (by omega), nI _ _ (by omega)]; exact c4 k k1 k2
      · rw [Fr_J f2 (fun q => by have := q.2; omega)]; exact c5 y y1 y2
      · rw [Fr_J f2 (fun q => by have := q.2; omega)]; exact c6 m m1 m2
      · rw [nI _ _ (by omega)]; exact c7 j j1 j2
    · show _ = (if h = g then w else aW A h)
      rw [gI_sI]
      by_cases c : h = g
      · rw [if_pos ⟨rfl, rfl, c⟩, if_pos c]
      · rw [if_neg (fun q => c q.2.2), if_neg c]; exact (b3 h k1 k2).2
    · intro k k1 k2
      simp only [nI 42 k (by omega), nI 43 k (by omega), nI 44 k (by omega), nI 45 k (by omega), nI 46 k (by omega), nI 47 k (by omega), nI 48 k (by omega)]
      exact b4 k k1 k2
    · intro k k1 k2
      simp only [nI 50 k (by omega), nI 51 k (by omega), nI 52 k (by omega), nI 53 k (by omega)]
      exact b5 k k1 k2
    · intro k k1 k2
      simp only [nI 61 k (by omega), nI 62 k (by omega)]
      exact b6 k k1 k2
    · simp only [nI 58 0 (by omega), nI 59 0 (by omega), nI 60 0 (by omega)]; exact b7
    · intro k k1 k2
      simp only [nI 66 k (by omega), nI 67 k (by omega), nI 68 k (by omega)]
      exact b8 k k1 k2
end
