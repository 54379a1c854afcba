/-! what a state keeps; improve and spread -/
set_option maxRecDepth 100000
def Fr (W : Nat → Nat → Int → Prop) (σ σ' : St) : Prop := cL σ' = cL σ ∧ aR σ' = aR σ ∧ gP σ' = gP σ ∧ nX σ' = nX σ ∧ (∀ a k i, ¬ W a k i → gI σ' a k i = gI σ a k i) ∧ ∀ a k i, ¬ W a k i → gJ σ' a k i = gJ σ a k i
section
variable {W W' : Nat → Nat → Int → Prop} {σ σ' σ2 : St}
theorem Fr_r : Fr W σ σ := ⟨rfl, rfl, rfl, rfl, fun _ _ _ _ => rfl, fun _ _ _ _ => rfl⟩
theorem Fr_t (h : Fr W σ σ') (h2 : Fr W σ' σ2) : Fr W σ σ2 := by
  obtain ⟨a1, a2, a3, a4, a5, a6⟩ := h
  obtain ⟨b1, b2, b3, b4, b5, b6⟩ := h2
  exact ⟨b1.trans a1, b2.trans a2, b3.trans a3, b4.trans a4, fun a k i n => (b5 a k i n).trans (a5 a k i n), fun a k i n => (b6 a k i n).trans (a6 a k i n)⟩
theorem Fr_m (h : Fr W σ σ') (hw : ∀ a k i, W a k i → W' a k i) : Fr W' σ σ' := by
  obtain ⟨a1, a2, a3, a4, a5, a6⟩ := h
  exact ⟨a1, a2, a3, a4, fun a k i n => a5 a k i (fun q => n (hw a k i q)), fun a k i n => a6 a k i (fun q => n (hw a k i q))⟩
theorem Fr_sI {a k : Nat} {i v : Int} (hw : W a k i) : Fr W σ (sI σ a k i v) := ⟨rfl, rfl, rfl, rfl, fun a' k' i' n => by rw [gI_sI, if_neg]; intro ⟨e1, e2, e3⟩; rw [e1, e2, e3] at n; exact n hw, fun _ _ _ _ => rfl⟩
theorem Fr_sJ {a k : Nat} {i v : Int} (hw : W a k i) : Fr W σ (sJ σ a k i v) := ⟨rfl, rfl, rfl, rfl, fun _ _ _ _ => rfl, fun a' k' i' n => by rw [gJ_sJ, if_neg]; intro ⟨e1, e2, e3⟩; rw [e1, e2, e3] at n; exact n hw⟩
theorem Fr_oc (h : Fr W σ σ') {b c : Nat} (q : oc σ b c) : oc σ' b c := by
  obtain ⟨a1, a2, _⟩ := h
  unfold oc at q ⊢
  rw [a1, a2]; exact q
theorem Fr_I (h : Fr W σ σ') {a k : Nat} {i : Int} (n : ¬ W a k i) : gI σ' a k i = gI σ a k i := h.2.2.2.2.1 a k i n
theorem Fr_J (h : Fr W σ σ') {a k : Nat} {i : Int} (n : ¬ W a k i) : gJ σ' a k i = gJ σ a k i := h.2.2.2.2.2 a k i n
end
def hdW (h : Nat) : Nat → Nat → Int → Prop := fun a k _ => a = h ∧ (k = 9 ∨ k = 11 ∨ k = 12 ∨ k = 19 ∨ k = 20 ∨ k = 21)
def tlX (σ : St) (h : Nat) : Prop := gI σ h 20 0 = (gI σ h 19 0 + gI σ h 21 0) % 10000
theorem emod_1 {a b : Int} : (a % b + 1) % b = (a + 1) % b := Int.emod_add_emod a b 1
section
variable {σ : St} {h : Nat} {v val : Int}
theorem X5_improve (ho : oc σ h 4) (hv : inR v) (hval : inL val) (hl : ∀ y, 1 ≤ y → y ≤ 9999 → inL (gJ σ h 9 y)) (hq : qOK 10000 (gI σ h 12) (gI σ h 11) (gI σ h 19 0) (gI σ h 21 0)) (ht : tlX σ h) : T (f_X5_improve σ h v val) (fun σ' => Fr (hdW h) σ σ' ∧ tlX σ' h ∧ IMP 10000 (gJ σ h 9) (gI σ h 12) (gI σ h 11) (gI σ h 19 0) (gI σ h 21 0) (gJ σ' h 9) (gI σ' h 12) (gI σ' h 11) (gI σ' h 19 0) (gI σ' h 21 0) v val) := by
  have qb := q_b hq
  have b1 := b01_b (1 ≤ v ∧ v ≤ 9999)
  have w9 : hdW h h 9 v := ⟨rfl, by simp⟩
  unfold tlX at ht
  unfold f_X5_improve
  simp only [T_some, T_none, T_ck, T_cLt, T_cEq, T_jLt, T_jEq, T_bind, T_bd2, T_wS, T_cO, T_nnS, T_cNullN, T_cNullS, T_bT1, T_bT2, T_ex, T_ite, T_dC, Sum.elim_inl, Sum.elim_inr, X1_isIn (by omega : inL v) (by omega : inL 1) (by omega : inL 9999), gI_sJ]
  refine ⟨ho, hv, by omega, fun q => ?_, fun q => ?_⟩
  · rw [b01_0] at q
    exact ⟨Fr_r, ht, rfl, Or.inl ⟨fun _ => rfl, fun _ => rfl, fun _ => rfl, rfl, Or.inl q⟩⟩
  · rw [b01_0, Decidable.not_not] at q
    have hlv := hl v q.1 q.2
    have wv := q_wt hq q.1 q.2
    refine ⟨by omega, ⟨hval, hlv⟩, fun c => ⟨by omega, by omega, by omega, fun c1 => ?_, fun c1 => ?_⟩, fun c => ?_⟩
    · simp only [gI_sI, gI_sJ, gI_sP, gI_cpI, gJ_sI, gJ_sJ, gJ_sP, gJ_cpI, gP_sI, gP_sJ, gP_sP, gP_cpI, cL_sI, cL_sJ, cL_sP, cL_cpI, aR_sI, aR_sJ, aR_sP, aR_cpI, nX_sI, nX_sJ, nX_sP, nX_cpI, oc_sIe, oc_sJe, oc_sPe, oc_cpIe]
      have e20 : ¬ (h = h ∧ (20 : Nat) = 12 ∧ (0 : Int) = v) := by omega
      have e21 : ¬ (h = h ∧ (20 : Nat) = 11 ∧ (0 : Int) = gI σ h 20 0) := by omega
      simp only [show ((20 : Nat) = 12) = False by simp, show ((20 : Nat) = 11) = False by simp, show ((21 : Nat) = 20) = False by simp, show ((21 : Nat) = 11) = False by simp, show ((21 : Nat) = 12) = False by simp, false_and, and_false, if_false]
      have tm : Int.tmod (gI σ h 20 0 + 1) 10000 = (gI σ h 20 0 + 1) % 10000 := Int.tmod_eq_emod_of_nonneg (by omega)
      refine ⟨⟨by omega, by simp⟩, by omega, by omega, ?_, ?_, ?_⟩
      · refine Fr_t (Fr_sJ w9) (Fr_t (Fr_sI ⟨rfl, by simp⟩) (Fr_t (Fr_sI ⟨rfl, by simp⟩) (Fr_t (Fr_sI ⟨rfl, by simp⟩) (Fr_sI ⟨rfl, by simp⟩))))
      · unfold tlX
        simp only [gI_sI, gI_sJ, gI_sP, gI_cpI, gJ_sI, gJ_sJ, gJ_sP, gJ_cpI, gP_sI, gP_sJ, gP_sP, gP_cpI, cL_sI, cL_sJ, cL_sP, cL_cpI, aR_sI, aR_sJ, aR_sP, aR_cpI, nX_sI, nX_sJ, nX_sP, nX_cpI, oc_sIe, oc_sJe, oc_sPe, oc_cpIe]
        simp
        rw [tm, ht, emod_1]; congr 1; omega
      · refine ⟨?_, Or.inr ⟨q, c, fun i => ?_, Or.inr ⟨c1, fun i => ?_, fun i => ?_, ?_⟩⟩⟩
        · (try simp only [gI_sI, gI_sJ, gI_sP, gI_cpI, gJ_sI, gJ_sJ, gJ_sP, gJ_cpI, gP_sI, gP_sJ, gP_sP, gP_cpI, cL_sI, cL_sJ, cL_sP, cL_cpI, aR_sI, aR_sJ, aR_sP, aR_cpI, nX_sI, nX_sJ, nX_sP, nX_cpI, oc_sIe, oc_sJe, oc_sPe, oc_cpIe]); try simp
        · (try simp only [gI_sI, gI_sJ, gI_sP, gI_cpI, gJ_sI, gJ_sJ, gJ_sP, gJ_cpI, gP_sI, gP_sJ, gP_sP, gP_cpI, cL_sI, cL_sJ, cL_sP, cL_cpI, aR_sI, aR_sJ, aR_sP, aR_cpI, nX_sI, nX_sJ, nX_sP, nX_cpI, oc_sIe, oc_sJe, oc_sPe, oc_cpIe]); try simp
        · (try simp only [gI_sI, gI_sJ, gI_sP, gI_cpI, gJ_sI, gJ_sJ, gJ_sP, gJ_cpI, gP_sI, gP_sJ, gP_sP, gP_cpI, cL_sI, cL_sJ, cL_sP, cL_cpI, aR_sI, aR_sJ, aR_sP, aR_cpI, nX_sI, nX_sJ, nX_sP, nX_cpI, oc_sIe, oc_sJe, oc_sPe, oc_cpIe]); try simp
        · (try simp only [gI_sI, gI_sJ, gI_sP, gI_cpI, gJ_sI, gJ_sJ, gJ_sP, gJ_cpI, gP_sI, gP_sJ, gP_sP, gP_cpI, cL_sI, cL_sJ, cL_sP, cL_cpI, aR_sI, aR_sJ, aR_sP, aR_cpI, nX_sI, nX_sJ, nX_sP, nX_cpI, oc_sIe, oc_sJe, oc_sPe, oc_cpIe]); try simp [ht]
        · (try simp only [gI_sI, gI_sJ, gI_sP, gI_cpI, gJ_sI, gJ_sJ, gJ_sP, gJ_cpI, gP_sI, gP_sJ, gP_sP, gP_cpI, cL_sI, cL_sJ, cL_sP, cL_cpI, aR_sI, aR_sJ, aR_sP, aR_cpI, nX_sI, nX_sJ, nX_sP, nX_cpI, oc_sIe, oc_sJe, oc_sPe, oc_cpIe]); try simp
    · refine ⟨Fr_sJ w9, ht, rfl, Or.inr ⟨q, c, fun i => ?_, Or.inl ⟨c1, fun _ => rfl, fun _ => rfl, rfl⟩⟩⟩
      simp only [gI_sI, gI_sJ, gI_sP, gI_cpI, gJ_sI, gJ_sJ, gJ_sP, gJ_cpI, gP_sI, gP_sJ, gP_sP, gP_cpI, cL_sI, cL_sJ, cL_sP, cL_cpI, aR_sI, aR_sJ, aR_sP, aR_cpI, nX_sI, nX_sJ, nX_sP, nX_cpI, oc_sIe, oc_sJe, oc_sPe, oc_cpIe]; simp
    · exact ⟨Fr_r, ht, rfl, Or.inl ⟨fun _ => rfl, fun _ => rfl, fun _ => rfl, rfl, Or.inr (by omega)⟩⟩
end
theorem sm_0 {g : Int → Int} {lo : Int} : ∀ {n : Nat}, (∀ k, lo ≤ k → k < lo + n → 0 ≤ g k) → 0 ≤ sm g lo n
  | 0, _ => Int.le_refl _
  | n + 1, h => by
    have := sm_0 (n := n) (fun k h1 h2 => h k h1 (by omega))
    have := h (lo + n) (by omega) (by omega)
    show 0 ≤ sm g lo n + g (lo + n)
    omega
/-- the state of a head's queue -/
def SPX (src : Int → Prop) (n : Int) (by' co : Int → Int) (h : Nat) (Z : Int → Prop) (P : Int → Int → Int → Prop) (σ : St) : Prop := oc σ h 4 ∧ tlX σ h ∧ gI σ h 14 0 = n ∧ (∀ k, 0 ≤ k → k < n → gI σ h 2 k = by' k ∧ gI σ h 3 k = co k) ∧ INV src (edS n by' co) 20000 1000000000000 10000 (gJ σ h 9) (gI σ h 12) (gI σ h 11) (gI σ h 19 0) (gI σ h 21 0) Z P
section
variable {src : Int → Prop} {n : Int} {by' co : Int → Int} {h : Nat} {Z : Int → Prop} {P : Int → Int → Int → Prop} {σ : St}
theorem edS_b {u v c : Int} (e : edS n by' co u v c) : (1 ≤ u ∧ u ≤ 9999) ∧ (1 ≤ v ∧ v ≤ 9999) := ⟨e.1, e.2.1⟩
theorem SPX_imp (hs : SPX src n by' co h Z P σ) {v val : Int} (hv : inR v) (hval : inL val) (v0 : 0 ≤ val) (hw : (∃ S C, wk src (edS n by' co) S v C ∧ val = 20000 * C + S) ∨ 1000000000000 ≤ val) : T (f_X5_improve σ h v val) (fun σ' => Fr (hdW h) σ σ' ∧ SPX src n by' co h Z P σ' ∧ mea (gJ σ' h 9) (gI σ' h 21 0) ≤ mea (gJ σ h 9) (gI σ h 21 0) ∧ (∀ i, gJ σ' h 9 i ≤ gJ σ h 9 i) ∧ (∀ i, ¬ i = v → gJ σ' h 9 i = gJ σ h 9 i) ∧ ((1 ≤ v ∧ v ≤ 9999) → gJ σ' h 9 v ≤ val)) := by
  obtain ⟨ho, ht, h14, hk, hi⟩ := hs
  refine T_mono (X5_improve ho hv hval (fun y y1 y2 => by have := hi.2.1 y y1 y2; omega) hi.1 ht) (fun σ' ⟨hf, ht', him⟩ => ?_)
  obtain ⟨a1, a2, a3, a4, a5, a6⟩ := inv_imp (by omega) (fun u v c => edS_b) hi him v0 hw
  refine ⟨hf, ⟨Fr_oc hf ho, ht', ?_, fun k k1 k2 => ?_, a1⟩, a2, a3, a4, a5⟩
  · rw [Fr_I hf (by simp [hdW])]; exact h14
  · rw [Fr_I hf (by simp [hdW]), Fr_I hf (by simp [hdW])]; exact hk k k1 k2
theorem X5_spread (hst : stOK n by' co) (hs : SPX src n by' co h Z (fun _ _ _ => False) σ) : T (f_X5_spread σ h) (fun σ' => Fr (hdW h) σ σ' ∧ SPX src n by' co h Z (fun _ _ _ => False) σ' ∧ gI σ' h 21 0 = 0) := by
  unfold f_X5_spread
  rw [cO_t hs.1]
  refine T_lp (fun σ1 => Fr (hdW h) σ σ1 ∧ SPX src n by' co h Z (fun _ _ _ => False) σ1) (fun σ1 => (mea (gJ σ1 h 9) (gI σ1 h 21 0)).toNat) ?_ ⟨Fr_r, hs⟩
  intro σ1 ⟨hf1, hs1⟩
  obtain ⟨ho, ht, h14, hk, hi⟩ := hs1
  have qb := q_b hi.1
  unfold f_X5_spread_b0
  simp only [T_cO, T_cLt]
  refine ⟨ho, by omega, fun c => ?_, fun c => ?_⟩
  · obtain ⟨p1, p2, p3⟩ := q_pop (by omega) hi.1 c
    have tm : Int.tmod (gI σ1 h 19 0 + 1) 10000 = (gI σ1 h 19 0 + 1) % 10000 := Int.tmod_eq_emod_of_nonneg (by omega)
    generalize hy : gI σ1 h 11 (gI σ1 h 19 0) = y at p1 p2 p3 ⊢
    simp only [T_some, T_none, T_ck, T_cLt, T_cEq, T_jLt, T_jEq, T_bind, T_bd2, T_wS, T_cO, T_nnS, T_cNullN, T_cNullS, T_bT1, T_bT2, T_ex, T_ite, T_dC, Sum.elim_inl, Sum.elim_inr, tm]
    refine ⟨by omega, by omega, ⟨by omega, by simp⟩, ?_⟩
    generalize h8 : sI (sI (sI σ1 h 19 0 ((gI σ1 h 19 0 + 1) % 10000)) h 21 0 (gI (sI σ1 h 19 0 ((gI σ1 h 19 0 + 1) % 10000)) h 21 0 - 1)) h 12 y 0 = σ8
    have j9 : gJ σ8 h 9 = gJ σ1 h 9 := by rw [← h8]; rfl
    have i21 : gI σ8 h 21 0 = gI σ1 h 21 0 - 1 := by rw [← h8]; simp only [gI_sI, gI_sJ, gI_sP, gI_cpI, gJ_sI, gJ_sJ, gJ_sP, gJ_cpI, gP_sI, gP_sJ, gP_sP, gP_cpI, cL_sI, cL_sJ, cL_sP, cL_cpI, aR_sI, aR_sJ, aR_sP, aR_cpI, nX_sI, nX_sJ, nX_sP, nX_cpI, oc_sIe, oc_sJe, oc_sPe, oc_cpIe]; simp
    have i19 : gI σ8 h 19 0 = (gI σ1 h 19 0 + 1) % 10000 := by rw [← h8]; simp only [gI_sI, gI_sJ, gI_sP, gI_cpI, gJ_sI, gJ_sJ, gJ_sP, gJ_cpI, gP_sI, gP_sJ, gP_sP, gP_cpI, cL_sI, cL_sJ, cL_sP, cL_cpI, aR_sI, aR_sJ, aR_sP, aR_cpI, nX_sI, nX_sJ, nX_sP, nX_cpI, oc_sIe, oc_sJe, oc_sPe, oc_cpIe]; simp
    have i20 : gI σ8 h 20 0 = gI σ1 h 20 0 := by rw [← h8]; simp only [gI_sI, gI_sJ, gI_sP, gI_cpI, gJ_sI, gJ_sJ, gJ_sP, gJ_cpI, gP_sI, gP_sJ, gP_sP, gP_cpI, cL_sI, cL_sJ, cL_sP, cL_cpI, aR_sI, aR_sJ, aR_sP, aR_cpI, nX_sI, nX_sJ, nX_sP, nX_cpI, oc_sIe, oc_sJe, oc_sPe, oc_cpIe]; simp
    have i11 : gI σ8 h 11 = gI σ1 h 11 := by rw [← h8]; funext i; simp only [gI_sI, gI_sJ, gI_sP, gI_cpI, gJ_sI, gJ_sJ, gJ_sP, gJ_cpI, gP_sI, gP_sJ, gP_sP, gP_cpI, cL_sI, cL_sJ, cL_sP, cL_cpI, aR_sI, aR_sJ, aR_sP, aR_cpI, nX_sI, nX_sJ, nX_sP, nX_cpI, oc_sIe, oc_sJe, oc_sPe, oc_cpIe]; simp
    have i12 : ∀ i, gI σ8 h 12 i = if i = y then 0 else gI σ1 h 12 i := by intro i; rw [← h8]; simp only [gI_sI, gI_sJ, gI_sP, gI_cpI, gJ_sI, gJ_sJ, gJ_sP, gJ_cpI, gP_sI, gP_sJ, gP_sP, gP_cpI, cL_sI, cL_sJ, cL_sP, cL_cpI, aR_sI, aR_sJ, aR_sP, aR_cpI, nX_sI, nX_sJ, nX_sP, nX_cpI, oc_sIe, oc_sJe, oc_sPe, oc_cpIe]; simp
    have f8 : Fr (hdW h) σ1 σ8 := by rw [← h8]; exact Fr_t (Fr_sI ⟨rfl, by simp⟩) (Fr_t (Fr_sI ⟨rfl, by simp⟩) (Fr_sI ⟨rfl, by simp⟩))
    have mpos : 0 ≤ mea (gJ σ1 h 9) (gI σ1 h 21 0 - 1) := by
      have := sm_0 (g := gJ σ1 h 9) (lo := 1) (n := 9999) (fun k k1 k2 => (hi.2.1 k k1 (by omega)).2.1)
      unfold mea; omega
    have s8 : SPX src n by' co h Z (fun u v c => u = y ∧ ¬ ∃ k', (0 ≤ k' ∧ k' < 0) ∧ (v = y - by' k' ∨ v = y + by' k') ∧ c = co k') σ8 := by
      refine ⟨Fr_oc f8 ho, ?_, ?_, fun k k1 k2 => ?_, ?_, ?_, ?_, ?_⟩
      · unfold tlX at ht ⊢
        rw [i20, i19, i21, ht, Int.emod_add_emod]; congr 1; omega
      · rw [Fr_I f8 (by simp [hdW])]; exact h14
      · rw [Fr_I f8 (by simp [hdW]), Fr_I f8 (by simp [hdW])]; exact hk k k1 k2
      · rw [i11, i19, i21]; exact p3 (fun z _ _ => i12 z)
      · rw [j9]; exact hi.2.1
      · rw [j9]; exact hi.2.2.1
      · intro u v c' he
        rw [i12, j9]
        by_cases cu : u = y
        · right; left; exact ⟨cu, fun ⟨k', hk', _⟩ => by omega⟩
        · rw [if_neg cu]
          rcases hi.2.2.2 u v c' he with q | q | q
          · exact Or.inl q
          · exact absurd q id
          · exact Or.inr (Or.inr q)
    refine T_lp (fun s => (0 ≤ s.1 ∧ s.1 ≤ n) ∧ Fr (hdW h) σ1 s.2 ∧ SPX src n by' co h Z (fun u v c => u = y ∧ ¬ ∃ k', (0 ≤ k' ∧ k' < s.1) ∧ (v = y - by' k' ∨ v = y + by' k') ∧ c = co k') s.2 ∧ mea (gJ s.2 h 9) (gI s.2 h 21 0) ≤ mea (gJ σ1 h 9) (gI σ1 h 21 0 - 1)) (fun s => (n - s.1).toNat) ?_ ⟨⟨by omega, by have := hst.1; dsimp only; omega⟩, f8, s8, by dsimp only; rw [j9, i21]; exact Int.le_refl _⟩
    intro ⟨k, σ2⟩ ⟨⟨k1, k2⟩, f2, s2, m2⟩
    have k1 : 0 ≤ k := k1
    have k2 : k ≤ n := k2
    dsimp only at f2 s2 m2
    have s2' := s2
    obtain ⟨ho2, ht2, h142, hk2, hi2⟩ := s2
    unfold f_X5_spread_b52
    have n6 := hst.1
    simp only [T_cO, T_cLt]
    rw [h142]
    refine ⟨ho2, by omega, fun ck => ?_, fun ck => ?_⟩
    · have sk := hst.2 k k1 ck
      have e2 := hk2 k k1 ck
      have ly := hi2.2.1 y p1.1 p1.2
      rw [e2.1, e2.2]
      simp only [T_ck, T_bind]
      refine ⟨by omega, by omega, by omega, by omega, ?_⟩
      have wkv : ∀ v, (v = y - by' k ∨ v = y + by' k) → (1 ≤ v ∧ v ≤ 9999) → (∃ S C, wk src (edS n by' co) S v C ∧ gJ σ2 h 9 y + 20000 * co k + 1 = 20000 * C + S) ∨ 1000000000000 ≤ gJ σ2 h 9 y + 20000 * co k + 1 := by
        intro v hv hb
        rcases ly.1 with q | ⟨S, C, q1, q2⟩
        · right; omega
        · left
          refine ⟨S + 1, C + co k, ⟨y, co k, by rw [show C + co k - co k = C by omega]; exact q1, p1, hb, k, ⟨k1, ck⟩, hv, rfl⟩, ?_⟩
          rw [q2, Int.mul_add]; omega
      have wko : ∀ v, ¬ (1 ≤ v ∧ v ≤ 9999) → (v = y - by' k ∨ v = y + by' k) → inR v := by intro v _ hv; omega
      have step : ∀ (σa : St) (v : Int) (PP : Int → Int → Int → Prop), (v = y - by' k ∨ v = y + by' k) → SPX src n by' co h Z PP σa → gJ σa h 9 y = gJ σ2 h 9 y → T (f_X5_improve σa h v (gJ σ2 h 9 y + 20000 * co k + 1)) (fun σ' => Fr (hdW h) σa σ' ∧ SPX src n by' co h Z PP σ' ∧ mea (gJ σ' h 9) (gI σ' h 21 0) ≤ mea (gJ σa h 9) (gI σa h 21 0) ∧ (∀ i, gJ σ' h 9 i ≤ gJ σa h 9 i) ∧ gJ σ' h 9 y = gJ σ2 h 9 y ∧ ((1 ≤ v ∧ v ≤ 9999) → gJ σ' h 9 v ≤ gJ σ2 h 9 y + 20000 * co k + 1)) := by
        intro σa v PP hv hsa ey
        by_cases hb : 1 ≤ v ∧ v ≤ 9999
        · refine T_mono (SPX_imp hsa (by omega) (by omega) (by omega) (wkv v hv hb)) (fun σ' ⟨a1, a2, a3, a4, a5, a6⟩ => ⟨a1, a2, a3, a4, ?_, a6⟩)
          rw [a5 y (by omega), ey]
        · unfold f_X5_improve
          rw [cO_t hsa.1, ck_t (by omega), X1_isIn (by omega) (by omega) (by omega), b01_f hb]
          simp only [T_some, T_none, T_ck, T_cLt, T_cEq, T_jLt, T_jEq, T_bind, T_bd2, T_wS, T_cO, T_nnS, T_cNullN, T_cNullS, T_bT1, T_bT2, T_ex, T_ite, T_dC, Sum.elim_inl, Sum.elim_inr]
          exact ⟨by omega, fun _ => ⟨Fr_r, hsa, Int.le_refl _, fun _ => Int.le_refl _, ey, fun q => absurd q hb⟩, fun q => absurd trivial q⟩
      refine T_mono (step σ2 (y - by' k) _ (Or.inl rfl) s2' rfl) (fun σ3 ⟨a1, a2, a3, a4, a5, a6⟩ => ?_)
      have hk3 := a2.2.2.2.1 k k1 ck
      rw [hk3.1, hk3.2, a5]
      simp only [T_cO, T_ck, T_bind]
      refine ⟨a2.1, by omega, by omega, by omega, by omega, ?_⟩
      refine T_mono (step σ3 (y + by' k) _ (Or.inr rfl) a2 a5) (fun σ4 ⟨c1, c2, c3, c4, c5, c6⟩ => ?_)
      simp only [T_some, T_none, T_ck, T_cLt, T_cEq, T_jLt, T_jEq, T_bind, T_bd2, T_wS, T_cO, T_nnS, T_cNullN, T_cNullS, T_bT1, T_bT2, T_ex, T_ite, T_dC, Sum.elim_inl, Sum.elim_inr]
      refine ⟨⟨by omega, Fr_t (Fr_t f2 a1) c1, ?_, by omega⟩, by omega⟩
      obtain ⟨d1, d2, d3, d4, d5, d6, d7, d8⟩ := c2
      refine ⟨d1, d2, d3, d4, d5, d6, d7, fun u v c' he => ?_⟩
      rcases d8 u v c' he with q | ⟨q1, q2⟩ | q
      · exact Or.inl q
      · by_cases hd : (v = y - by' k ∨ v = y + by' k) ∧ c' = co k
        · right; right
          rw [q1, c5, hd.2]
          rcases hd.1 with w | w
          · have w1 := a6 (by rw [← w]; exact he.2.1)
            have w2 := c4 (y - by' k)
            rw [w]; omega
          · have w1 := c6 (by rw [← w]; exact he.2.1)
            rw [w]; omega
        · right; left
          refine ⟨q1, fun ⟨k', hk', r1, r2⟩ => ?_⟩
          by_cases e : k' = k
          · rw [e] at r1 r2; exact hd ⟨r1, r2⟩
          · exact q2 ⟨k', by omega, r1, r2⟩
      · exact Or.inr (Or.inr q)
    · simp only [T_some, T_none, T_ck, T_cLt, T_cEq, T_jLt, T_jEq, T_bind, T_bd2, T_wS, T_cO, T_nnS, T_cNullN, T_cNullS, T_bT1, T_bT2, T_ex, T_ite, T_dC, Sum.elim_inl, Sum.elim_inr]
      refine ⟨⟨Fr_t hf1 f2, ?_⟩, ?_⟩
      · obtain ⟨d5, d6, d7, d8⟩ := hi2
        refine ⟨ho2, ht2, h142, hk2, d5, d6, d7, fun u v c' he => ?_⟩
        rcases d8 u v c' he with q | ⟨q1, q2⟩ | q
        · exact Or.inl q
        · exfalso
          obtain ⟨k', r0, r1, r2⟩ := he.2.2
          exact q2 ⟨k', by omega, by rw [← q1]; exact r1, r2⟩
        · exact Or.inr (Or.inr q)
      · unfold mea at m2 mpos ⊢
        omega
  · simp only [T_some, T_none, T_ck, T_cLt, T_cEq, T_jLt, T_jEq, T_bind, T_bd2, T_wS, T_cO, T_nnS, T_cNullN, T_cNullS, T_bT1, T_bT2, T_ex, T_ite, T_dC, Sum.elim_inl, Sum.elim_inr]
    exact ⟨hf1, ⟨ho, ht, h14, hk, hi⟩, by omega⟩
end
