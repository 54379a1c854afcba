/-! heads in the state -/
set_option maxRecDepth 100000
def HeadX (σ : St) (a : Nat) (H : Hea) : Prop := oc σ a 4 ∧ gI σ a 14 0 = hN H ∧ (∀ k, 0 ≤ k → k < hN H → gI σ a 2 k = hB H k ∧ gI σ a 3 k = hC H k) ∧ gI σ a 15 0 = mN H ∧ (∀ k, 0 ≤ k → k < mN H → gI σ a 4 k = mO H k ∧ gI σ a 5 k = mP H k ∧ gI σ a 6 k = mC H k) ∧ (∀ y, 1 ≤ y → y ≤ 9999 → gJ σ a 9 y = hL H y) ∧ (∀ m, 1 ≤ m → m ≤ 12 → gJ σ a 10 m = hM H m) ∧ (∀ j, 0 ≤ j → j < 4 → gI σ a 7 j = hK H j) ∧ heaOK H
/-- the year known last -/
def cacOK (σ : St) (a : Nat) (H : Hea) : Prop := gI σ a 17 0 = 0 ∨ ((1 ≤ gI σ a 17 0 ∧ gI σ a 17 0 ≤ 9999) ∧ hL H (gI σ a 17 0) < 1000000000000 ∧ gI σ a 18 0 = kY H (gI σ a 17 0))
def HeadM (σ : St) (o : Nat) (h : Int) (H : Hea) : Prop := oc σ o 5 ∧ (0 ≤ h ∧ h < 9) ∧ gI σ o 18 h = hN H ∧ (∀ k, 0 ≤ k → k < hN H → gI σ o 19 (6 * h + k) = hB H k ∧ gI σ o 20 (6 * h + k) = hC H k) ∧ gI σ o 21 h = mN H ∧ (∀ k, 0 ≤ k → k < mN H → gI σ o 22 (12 * h + k) = mO H k ∧ gI σ o 23 (12 * h + k) = mP H k ∧ gI σ o 24 (12 * h + k) = mC H k) ∧ (∀ y, 1 ≤ y → y ≤ 9999 → gJ σ o 30 (10001 * h + y) = tr (hL H y)) ∧ (∀ m, 1 ≤ m → m ≤ 12 → gJ σ o 31 (13 * h + m) = tr (hM H m)) ∧ (∀ j, 0 ≤ j → j < 4 → gI σ o 26 (4 * h + j) = hK H j) ∧ heaOK H
section
variable {σ : St} {a o : Nat} {h : Int} {H : Hea} {y m : Int}
theorem v_L (h : heaOK H) (y1 : 1 ≤ y) (y2 : y ≤ 9999) : 0 ≤ hL H y ∧ hL H y ≤ 1000000000000 := by
  have v := (h.2.2.1 y y1 y2).1
  unfold vOK at v; omega
theorem v_M (h : heaOK H) (m1 : 1 ≤ m) (m2 : m ≤ 12) : 0 ≤ hM H m ∧ hM H m ≤ 1000000000000 := by
  have v := (h.2.2.2.1 m m1 m2).1
  unfold vOK at v; omega
theorem X5_better {b v c : Int} (hx : HeadX σ a H) (hv : inR v) (hc : inL c) (hb : inR b) : f_X5_better σ a b v c = some (bet (hL H) 9999 b v c) := by
  obtain ⟨ho, _, _, _, _, hl, _, _, hO⟩ := hx
  have b1 := b01_b (1 ≤ v ∧ v ≤ 9999)
  unfold f_X5_better bet
  rw [cO_t ho, ck_t hv, X1_isIn (by omega) (by omega) (by omega)]
  refine T_eq.mp ?_
  simp only [T_some, T_none, T_ck, T_cLt, T_cEq, T_jLt, T_jEq, T_bind, T_bd2, T_wS, T_cO, T_nnS, T_cNullN, T_cNullS, T_bT1, T_bT2, T_ex, T_ite, T_dC, Sum.elim_inl, Sum.elim_inr]
  refine ⟨by omega, fun q => ?_, fun q => ?_⟩
  · rw [b01_0] at q; rw [if_neg (fun w => q w.1)]
  · rw [b01_0, Decidable.not_not] at q
    rw [hl v q.1 q.2]
    have vv := v_L hO q.1 q.2
    refine ⟨by omega, by omega, fun c1 => ⟨by omega, fun c2 => ?_, fun c2 => ⟨by omega, fun c3 => ?_, fun c3 => ?_⟩⟩, fun c1 => ?_⟩
    · rw [if_pos ⟨q, c1, Or.inl c2⟩]
    · rw [if_pos ⟨q, c1, Or.inr c3⟩]
    · rw [if_neg (fun w => by omega)]
    · rw [if_neg (fun w => c1 w.2.1)]
theorem bet_b {g : Int → Int} {N b v c : Int} (hb : inR b) (hv : inR v) : inR (bet g N b v c) := by unfold bet; split <;> assumption
theorem X5_nextYear (hx : HeadX σ a H) (y1 : 1 ≤ y) (y2 : y ≤ 9999) : f_X5_nextYear σ a y = some (nxY H y) := by
  have hx' := hx
  obtain ⟨ho, h14, hk, _, _, hl, _, _, hO⟩ := hx
  have n6 := hO.1.1
  have vy := v_L hO y1 y2
  unfold f_X5_nextYear nxY
  rw [cO_t ho]
  refine T_eq.mp (T_lp (fun s => s.1 = fo (fun b k => bet (hL H) 9999 (bet (hL H) 9999 b (y - hB H k) (hL H y - 20000 * hC H k - 1)) (y + hB H k) (hL H y - 20000 * hC H k - 1)) (-1) 0 (s.2 - 0).toNat ∧ (0 ≤ s.2 ∧ s.2 ≤ hN H) ∧ inR s.1) (fun s => (hN H - s.2).toNat) ?_ ⟨rfl, by dsimp only; omega, by dsimp only; omega⟩)
  intro ⟨b, k⟩ ⟨e, k1, k2⟩
  dsimp only at e k1 k2
  unfold f_X5_nextYear_b4
  rw [h14]
  simp only [T_cLt]
  refine ⟨by omega, fun c => ?_, fun c => ?_⟩
  · have ek := hk k k1.1 c
    have sk := hO.1.2 k k1.1 c
    rw [ek.1, ek.2, hl y y1 y2]
    simp only [T_some, T_none, T_ck, T_cLt, T_cEq, T_jLt, T_jEq, T_bind, T_bd2, T_wS, T_cO, T_nnS, T_cNullN, T_cNullS, T_bT1, T_bT2, T_ex, T_ite, T_dC, Sum.elim_inl, Sum.elim_inr, X5_better hx' (by omega : inR (y - hB H k)) (by omega : inL (hL H y - 20000 * hC H k - 1)) k2]
    have b2 := bet_b (g := hL H) (N := 9999) (c := hL H y - 20000 * hC H k - 1) k2 (by omega : inR (y - hB H k))
    simp only [T_some, T_none, T_ck, T_cLt, T_cEq, T_jLt, T_jEq, T_bind, T_bd2, T_wS, T_cO, T_nnS, T_cNullN, T_cNullS, T_bT1, T_bT2, T_ex, T_ite, T_dC, Sum.elim_inl, Sum.elim_inr, X5_better hx' (by omega : inR (y + hB H k)) (by omega : inL (hL H y - 20000 * hC H k - 1)) b2]
    refine ⟨by omega, by omega, by omega, by omega, by omega, ⟨?_, by omega, bet_b b2 (by omega)⟩, by omega⟩
    rw [fo_at _ _ k1.1, ← e]
  · simp only [T_some, T_none, T_ck, T_cLt, T_cEq, T_jLt, T_jEq, T_bind, T_bd2, T_wS, T_cO, T_nnS, T_cNullN, T_cNullS, T_bT1, T_bT2, T_ex, T_ite, T_dC, Sum.elim_inl, Sum.elim_inr]
    rw [e]; congr 1; omega
theorem X6_nextYear (hx : HeadM σ o h H) (y1 : 1 ≤ y) (y2 : y ≤ 9999) (hf : hL H y < 1000000000000) : f_X6_nextYear σ o h y = some (nxY H y) := by
  obtain ⟨ho, h9, h14, hk, _, _, hl, _, _, hO⟩ := hx
  have n6 := hO.1.1
  have vy' := (hO.2.2.1 y y1 y2).1
  have vy := v_L hO y1 y2
  have ty := tr_b vy'
  unfold f_X6_nextYear nxY
  rw [cO_t ho]
  refine T_eq.mp (T_lp (fun s => s.1 = fo (fun b k => bet (hL H) 9999 (bet (hL H) 9999 b (y - hB H k) (hL H y - 20000 * hC H k - 1)) (y + hB H k) (hL H y - 20000 * hC H k - 1)) (-1) 0 (s.2 - 0).toNat ∧ (0 ≤ s.2 ∧ s.2 ≤ hN H) ∧ inR s.1) (fun s => (hN H - s.2).toNat) ?_ ⟨rfl, by dsimp only; omega, by dsimp only; omega⟩)
  intro ⟨b, k⟩ ⟨e, k1, k2⟩
  dsimp only at e k1 k2
  unfold f_X6_nextYear_b5
  rw [h14]
  simp only [T_cLt, T_ck]
  refine ⟨h9, by omega, fun c => ?_, fun c => ?_⟩
  · have ek := hk k k1.1 c
    have sk := hO.1.2 k k1.1 c
    rw [ek.1, ek.2, hl y y1 y2]
    have second : ∀ b', inR b' → T (f_X6_nextYear_j127 σ o h y b' k (tr (hL H y) - 100000 * hC H k - 1) (y + hB H k)) (fun r => r = .inl (bet (hL H) 9999 b' (y + hB H k) (hL H y - 20000 * hC H k - 1), k + 1)) := by
      intro b' hb'
      unfold f_X6_nextYear_j127 bet
      rw [X6_in (by omega) (by omega) (by omega)]
      have b1 := b01_b (1 ≤ y + hB H k ∧ y + hB H k ≤ 9999)
      simp only [T_some, T_none, T_ck, T_cLt, T_cEq, T_jLt, T_jEq, T_bind, T_bd2, T_wS, T_cO, T_nnS, T_cNullN, T_cNullS, T_bT1, T_bT2, T_ex, T_ite, T_dC, Sum.elim_inl, Sum.elim_inr]
      refine ⟨by omega, fun q => ?_, fun q => ?_⟩
      · rw [b01_0] at q; rw [if_neg (fun w => q w.1)]
      · rw [b01_0, Decidable.not_not] at q
        rw [hl _ q.1 q.2]
        have vv := (hO.2.2.1 (y + hB H k) q.1 q.2).1
        have tv := tr_b vv
        have te := tr_eq vv vy' hf sk.2.1 sk.2.2
        refine ⟨by omega, by omega, fun c1 => ⟨by omega, fun c2 => ?_, fun c2 => ⟨by omega, fun c3 => ?_, fun c3 => ?_⟩⟩, fun c1 => ?_⟩
        · rw [if_pos ⟨q, te.mp c1, Or.inl c2⟩]
        · rw [if_pos ⟨q, te.mp c1, Or.inr c3⟩]
        · rw [if_neg (fun w => by omega)]
        · rw [if_neg (fun w => c1 (te.mpr w.2.1))]
    have fin : ∀ b', inR b' → b' = bet (hL H) 9999 b (y - hB H k) (hL H y - 20000 * hC H k - 1) → T (f_X6_nextYear_j127 σ o h y b' k (tr (hL H y) - 100000 * hC H k - 1) (y + hB H k)) (Sum.elim (fun s' => (s'.1 = fo (fun b k => bet (hL H) 9999 (bet (hL H) 9999 b (y - hB H k) (hL H y - 20000 * hC H k - 1)) (y + hB H k) (hL H y - 20000 * hC H k - 1)) (-1) 0 (s'.2 - 0).toNat ∧ (0 ≤ s'.2 ∧ s'.2 ≤ hN H) ∧ inR s'.1) ∧ (hN H - s'.2).toNat < (hN H - (b, k).2).toNat) (fun r => r = fo (fun b k => bet (hL H) 9999 (bet (hL H) 9999 b (y - hB H k) (hL H y - 20000 * hC H k - 1)) (y + hB H k) (hL H y - 20000 * hC H k - 1)) (-1) 0 (hN H).toNat)) := by
      intro b' hb' eb
      refine T_mono (second b' hb') (fun r hr => ?_)
      rw [hr]
      refine ⟨⟨?_, by dsimp only; omega, bet_b hb' (by omega)⟩, by dsimp only; omega⟩
      dsimp only
      rw [fo_at _ _ k1.1, ← e, eb]
    unfold f_X6_nextYear_j124
    rw [X6_in (by omega) (by omega) (by omega)]
    have b1 := b01_b (1 ≤ y - hB H k ∧ y - hB H k ≤ 9999)
    simp only [T_bind, T_some, T_cEq, T_jEq, T_cLt, T_ck]
    refine ⟨by omega, by omega, by omega, by omega, by omega, by omega, fun q => ?_, fun q => ?_⟩
    · rw [b01_0] at q
      exact fin b k2 (by unfold bet; rw [if_neg (fun w => q w.1)])
    · rw [b01_0, Decidable.not_not] at q
      rw [hl _ q.1 q.2]
      have vv := (hO.2.2.1 (y - hB H k) q.1 q.2).1
      have tv := tr_b vv
      have te := tr_eq vv vy' hf sk.2.1 sk.2.2
      refine ⟨by omega, by omega, fun c1 => ⟨by omega, fun c2 => ?_, fun c2 => ⟨by omega, fun c3 => ?_, fun c3 => ?_⟩⟩, fun c1 => ?_⟩
      · exact fin _ (by omega) (by unfold bet; rw [if_pos ⟨q, te.mp c1, Or.inl c2⟩])
      · exact fin _ (by omega) (by unfold bet; rw [if_pos ⟨q, te.mp c1, Or.inr c3⟩])
      · exact fin _ k2 (by unfold bet; rw [if_neg (fun w => by omega)])
      · exact fin _ k2 (by unfold bet; rw [if_neg (fun w => c1 (te.mpr w.2.1))])
  · simp only [T_some, T_none, T_ck, T_cLt, T_cEq, T_jLt, T_jEq, T_bind, T_bd2, T_wS, T_cO, T_nnS, T_cNullN, T_cNullS, T_bT1, T_bT2, T_ex, T_ite, T_dC, Sum.elim_inl, Sum.elim_inr]
    rw [e]; congr 1; omega
theorem X5_nextMonth (hx : HeadX σ a H) (m1 : 1 ≤ m) (m2 : m ≤ 12) : f_X5_nextMonth σ a m = some (nxM H m) := by
  obtain ⟨ho, _, _, h15, hk, _, hl, _, hO⟩ := hx
  have n6 := hO.2.1.1
  have vm := v_M hO m1 m2
  unfold f_X5_nextMonth nxM
  rw [cO_t ho]
  refine T_eq.mp (T_lp (fun s => s.1 = fo (fun b k => if oth H m k = -1 then b else bet (hM H) 12 b (oth H m k) (hM H m - 20000 * mC H k - 1)) (-1) 0 (s.2 - 0).toNat ∧ (0 ≤ s.2 ∧ s.2 ≤ mN H) ∧ inR s.1) (fun s => (mN H - s.2).toNat) ?_ ⟨rfl, by dsimp only; omega, by dsimp only; omega⟩)
  intro ⟨b, k⟩ ⟨e, k1, k2⟩
  dsimp only at e k1 k2
  unfold f_X5_nextMonth_b4
  rw [h15]
  simp only [T_cLt]
  refine ⟨by omega, fun c => ?_, fun c => ?_⟩
  · obtain ⟨e4, e5, e6⟩ := hk k k1.1 c
    have sk := hO.2.1.2 k k1.1 c
    have ob := oth_b hO (m := m) ⟨k1.1, c⟩
    have go : ∀ t, (1 ≤ t ∧ t ≤ 12) → oth H m k = t → T (f_X5_nextMonth_j60 σ a m b k t) (Sum.elim (fun s' => (s'.1 = fo (fun b k => if oth H m k = -1 then b else bet (hM H) 12 b (oth H m k) (hM H m - 20000 * mC H k - 1)) (-1) 0 (s'.2 - 0).toNat ∧ (0 ≤ s'.2 ∧ s'.2 ≤ mN H) ∧ inR s'.1) ∧ (mN H - s'.2).toNat < (mN H - (b, k).2).toNat) (fun r => r = fo (fun b k => if oth H m k = -1 then b else bet (hM H) 12 b (oth H m k) (hM H m - 20000 * mC H k - 1)) (-1) 0 (mN H).toNat)) := by
      intro t ht et
      have vt := v_M hO ht.1 ht.2
      have fin : ∀ b', inR b' → b' = bet (hM H) 12 b t (hM H m - 20000 * mC H k - 1) → ((b' = fo (fun b k => if oth H m k = -1 then b else bet (hM H) 12 b (oth H m k) (hM H m - 20000 * mC H k - 1)) (-1) 0 (k + 1 - 0).toNat ∧ (0 ≤ k + 1 ∧ k + 1 ≤ mN H) ∧ inR b') ∧ (mN H - (k + 1)).toNat < (mN H - k).toNat) := by
        intro b' hb' eb
        refine ⟨⟨?_, by omega, hb'⟩, by omega⟩
        rw [fo_at _ _ k1.1, ← e, et, if_neg (by omega), eb]
      unfold f_X5_nextMonth_j60
      rw [hl t ht.1 ht.2, e6, hl m m1 m2]
      simp only [T_some, T_none, T_ck, T_cLt, T_cEq, T_jLt, T_jEq, T_bind, T_bd2, T_wS, T_cO, T_nnS, T_cNullN, T_cNullS, T_bT1, T_bT2, T_ex, T_ite, T_dC, Sum.elim_inl, Sum.elim_inr]
      refine ⟨by omega, by omega, by omega, by omega, by omega, fun c1 => ⟨by omega, fun c2 => ?_, fun c2 => ⟨by omega, fun c3 => ?_, fun c3 => ?_⟩⟩, fun c1 => ?_⟩
      · exact fin _ (by omega) (by unfold bet; rw [if_pos ⟨ht, by omega, Or.inl c2⟩])
      · exact fin _ (by omega) (by unfold bet; rw [if_pos ⟨ht, by omega, Or.inr c3⟩])
      · exact fin _ k2 (by unfold bet; rw [if_neg (fun w => by omega)])
      · exact fin _ k2 (by unfold bet; rw [if_neg (fun w => by omega)])
    unfold f_X5_nextMonth_j35
    rw [e4, e5]
    simp only [T_ck, T_cEq]
    refine ⟨by omega, by omega, fun q => ⟨by omega, by omega, fun _ => ⟨by omega, ?_⟩, fun q1 => absurd q q1⟩, fun q => ⟨by omega, by omega, fun q1 => ⟨by omega, by omega, fun q2 => absurd q2 q, fun _ => ⟨by omega, ?_⟩⟩, fun q1 => ?_⟩⟩
    · exact go _ sk.2.1 (by unfold oth; rw [if_pos q])
    · exact go _ sk.1 (by unfold oth; rw [if_neg q, if_pos q1])
    · simp only [T_some, T_none, T_ck, T_cLt, T_cEq, T_jLt, T_jEq, T_bind, T_bd2, T_wS, T_cO, T_nnS, T_cNullN, T_cNullS, T_bT1, T_bT2, T_ex, T_ite, T_dC, Sum.elim_inl, Sum.elim_inr]
      refine ⟨⟨?_, by omega, k2⟩, by omega⟩
      rw [fo_at _ _ k1.1, ← e, if_pos (by unfold oth; rw [if_neg q, if_neg q1])]
  · simp only [T_some, T_none, T_ck, T_cLt, T_cEq, T_jLt, T_jEq, T_bind, T_bd2, T_wS, T_cO, T_nnS, T_cNullN, T_cNullS, T_bT1, T_bT2, T_ex, T_ite, T_dC, Sum.elim_inl, Sum.elim_inr]
    rw [e]; congr 1; omega
theorem X6_nextMonth (hx : HeadM σ o h H) (m1 : 1 ≤ m) (m2 : m ≤ 12) (hf : hM H m < 1000000000000) : f_X6_nextMonth σ o h m = some (nxM H m) := by
  obtain ⟨ho, h9, _, _, h15, hk, _, hl, _, hO⟩ := hx
  have n6 := hO.2.1.1
  have vm := (hO.2.2.2.1 m m1 m2).1
  have tm := tr_b vm
  unfold f_X6_nextMonth nxM
  rw [cO_t ho]
  refine T_eq.mp (T_lp (fun s => s.1 = fo (fun b k => if oth H m k = -1 then b else bet (hM H) 12 b (oth H m k) (hM H m - 20000 * mC H k - 1)) (-1) 0 (s.2 - 0).toNat ∧ (0 ≤ s.2 ∧ s.2 ≤ mN H) ∧ inR s.1) (fun s => (mN H - s.2).toNat) ?_ ⟨rfl, by dsimp only; omega, by dsimp only; omega⟩)
  intro ⟨b, k⟩ ⟨e, k1, k2⟩
  dsimp only at e k1 k2
  unfold f_X6_nextMonth_b5
  rw [h15]
  simp only [T_cLt, T_ck]
  refine ⟨h9, by omega, fun c => ?_, fun c => ?_⟩
  · obtain ⟨e4, e5, e6⟩ := hk k k1.1 c
    have sk := hO.2.1.2 k k1.1 c
    have go : ∀ t, ((1 ≤ t ∧ t ≤ 12) ∨ t = -1) → oth H m k = t → T (f_X6_nextMonth_j67 σ o h m b k t) (Sum.elim (fun s' => (s'.1 = fo (fun b k => if oth H m k = -1 then b else bet (hM H) 12 b (oth H m k) (hM H m - 20000 * mC H k - 1)) (-1) 0 (s'.2 - 0).toNat ∧ (0 ≤ s'.2 ∧ s'.2 ≤ mN H) ∧ inR s'.1) ∧ (mN H - s'.2).toNat < (mN H - (b, k).2).toNat) (fun r => r = fo (fun b k => if oth H m k = -1 then b else bet (hM H) 12 b (oth H m k) (hM H m - 20000 * mC H k - 1)) (-1) 0 (mN H).toNat)) := by
      intro t ht et
      unfold f_X6_nextMonth_j67
      simp only [T_cEq]
      refine ⟨by omega, fun q => ?_, fun q => ?_⟩
      · simp only [T_some, T_none, T_ck, T_cLt, T_cEq, T_jLt, T_jEq, T_bind, T_bd2, T_wS, T_cO, T_nnS, T_cNullN, T_cNullS, T_bT1, T_bT2, T_ex, T_ite, T_dC, Sum.elim_inl, Sum.elim_inr]
        refine ⟨⟨?_, by omega, k2⟩, by omega⟩
        rw [fo_at _ _ k1.1, ← e, if_pos (by omega)]
      · have ht : 1 ≤ t ∧ t ≤ 12 := by omega
        have vt := (hO.2.2.2.1 t ht.1 ht.2).1
        have tt := tr_b vt
        have te := tr_eq vt vm hf sk.2.2.2.1 sk.2.2.2.2
        have fin : ∀ b', inR b' → b' = bet (hM H) 12 b t (hM H m - 20000 * mC H k - 1) → ((b' = fo (fun b k => if oth H m k = -1 then b else bet (hM H) 12 b (oth H m k) (hM H m - 20000 * mC H k - 1)) (-1) 0 (k + 1 - 0).toNat ∧ (0 ≤ k + 1 ∧ k + 1 ≤ mN H) ∧ inR b') ∧ (mN H - (k + 1)).toNat < (mN H - k).toNat) := by
          intro b' hb' eb
          refine ⟨⟨?_, by omega, hb'⟩, by omega⟩
          rw [fo_at _ _ k1.1, ← e, et, if_neg (by omega), eb]
        rw [hl t ht.1 ht.2, e6, hl m m1 m2]
        simp only [T_some, T_none, T_ck, T_cLt, T_cEq, T_jLt, T_jEq, T_bind, T_bd2, T_wS, T_cO, T_nnS, T_cNullN, T_cNullS, T_bT1, T_bT2, T_ex, T_ite, T_dC, Sum.elim_inl, Sum.elim_inr]
        refine ⟨by omega, by omega, by omega, by omega, by omega, fun c1 => ⟨by omega, fun c2 => ?_, fun c2 => ⟨by omega, fun c3 => ?_, fun c3 => ?_⟩⟩, fun c1 => ?_⟩
        · exact fin _ (by omega) (by unfold bet; rw [if_pos ⟨ht, te.mp c1, Or.inl c2⟩])
        · exact fin _ (by omega) (by unfold bet; rw [if_pos ⟨ht, te.mp c1, Or.inr c3⟩])
        · exact fin _ k2 (by unfold bet; rw [if_neg (fun w => by omega)])
        · exact fin _ k2 (by unfold bet; rw [if_neg (fun w => c1 (te.mpr w.2.1))])
    rw [e4, e5]
    simp only [T_cEq]
    refine ⟨by omega, by omega, by omega, fun q => ?_, fun q => ⟨by omega, fun q1 => ?_, fun q1 => ?_⟩⟩
    · exact go _ (Or.inl sk.2.1) (by unfold oth; rw [if_pos q])
    · exact go _ (Or.inl sk.1) (by unfold oth; rw [if_neg q, if_pos q1])
    · exact go _ (Or.inr rfl) (by unfold oth; rw [if_neg q, if_neg q1])
  · simp only [T_some, T_none, T_ck, T_cLt, T_cEq, T_jLt, T_jEq, T_bind, T_bd2, T_wS, T_cO, T_nnS, T_cNullN, T_cNullS, T_bT1, T_bT2, T_ex, T_ite, T_dC, Sum.elim_inl, Sum.elim_inr]
    rw [e]; congr 1; omega
end
