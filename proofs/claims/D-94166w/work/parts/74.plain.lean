/-! ask; weigh; day -/
set_option maxRecDepth 100000
section
variable {σ σ1 σ2 : St} {x o a b : Nat} {A A' : AS} {g c y m d v k s p w i mo an te : Int}
theorem isDatS (h : RR x o A σ) (sO : sa σ σ1 o) (hc : inR c) (hy : inR y) (hm : inR m) (hd : inR d) : f_X6_isDate σ1 o c y m d = some (bI (isD A c y m d)) := isDatM h sO hc hy hm hd
set_option maxHeartbeats 4000000 in
theorem O_ask (h : RR x o A σ) (hmo : inR mo) (hc : inR c) (hy : inR y) (hm : inR m) (hd : inR d) (han : inR an) (hte : inR te) : BothT x o (f_X1_ask σ x mo c y m d an te) (fun σ' => f_X6_ask σ' o mo c y m d an te) := by
  have n := R_n h
  have hM := RMv_of h.2.2.2
  have ne := x_ne_o h
  have hw := h.1
  have xb := WF_ne hw (R_x h).1
  have ob := WF_ne hw (R_o h).1
  have same : ((aV A 13 0) = 60 ∨ isB mo 0 999 = false ∨ isD A c y m d = false ∨ isB an 0 6 = false ∨ isB te 0 9999 = false ∨ (0 < (aV A 13 0) ∧ mo < aQ A 0 ((aV A 13 0) - 1))) → T (f_X6_ask σ o mo c y m d an te) (fun r2 => r2.1 = -1 ∧ ∃ A', RR x o A' r2.2) := by
    intro hh
    have j42 : ¬ (0 < (aV A 13 0) ∧ mo < aQ A 0 ((aV A 13 0) - 1)) → isB mo 0 999 = true → T (f_X6_ask_j42 o mo c y m d an te σ) (fun r2 => r2.1 = -1 ∧ ∃ A', RR x o A' r2.2) := by
      intro g1 g2
      unfold f_X6_ask_j42
      rw [cO_t (R_o h), hM.1.2.1]
      simp only [T_bind, T_some, T_cEq, bI_R, true_and, bI_0, Bool.not_eq_false, X6_isDat h hc hy hm hd, X6_isB han (by omega : inR 0) (by omega : inR 6), X6_isB hte (by omega : inR 0) (by omega : inR 9999)]
      refine ⟨fun e => ⟨A, h⟩, fun e => ⟨fun e1 => ⟨A, h⟩, fun e1 => ⟨fun e2 => ⟨A, h⟩, fun e2 => ⟨by omega, fun z => ⟨A, h⟩, fun z => ?_⟩⟩⟩⟩
      rcases hh with q | q | q | q | q | q
      · exact absurd q z
      · rw [g2] at q; cases q
      · rw [e] at q; cases q
      · rw [e1] at q; cases q
      · rw [e2] at q; cases q
      · exact absurd q g1
    unfold f_X6_ask
    rw [cO_t (R_o h), hM.1.2.1]
    simp only [T_bind, T_some, T_cEq, bI_R, true_and, bI_0, Bool.not_eq_false, X6_isB hmo (by omega : inR 0) (by omega : inR 999), T_cLt, T_ck]
    refine ⟨fun e => ⟨A, h⟩, fun e => ⟨by omega, fun z => ⟨by omega, fun z1 => by omega, fun z1 => ⟨by omega, ?_⟩⟩, fun z => j42 (fun q => z q.1) e⟩⟩
    have qa := (R_qa h (k := (aV A 13 0) - 1) (by omega) (by omega)).2.2.1
    rw [(R_mq h (k := (aV A 13 0) - 1) (by omega) (by omega)).1]
    exact ⟨by omega, fun z2 => ⟨A, h⟩, fun z2 => j42 (fun q => z2 q.2) e⟩
  have main : isB mo 0 999 = true → isD A c y m d = true → isB an 0 6 = true → isB te 0 9999 = true → ¬ (aV A 13 0) = 60 → (0 < (aV A 13 0) → aQ A 0 ((aV A 13 0) - 1) ≤ mo) → T (f_X1_ask_j89 x mo c y m d an te σ) (fun r => inR r.1 ∧ T (f_X6_ask r.2 o mo c y m d an te) (fun r2 => r2.1 = r.1 ∧ ∃ A', RR x o A' r2.2)) := by
    intro g1 g2 g3 g4 g5 g6
    obtain ⟨qc, qd⟩ := isD_t.mp g2
    have mb := isB_t.mp g1
    have ab := isB_t.mp g3
    have tb := isB_t.mp g4
    have db := dayC_bb h qc (y := y) (m := m) (d := d)
    obtain ⟨p1, p2⟩ := R_cal h qc.1 qc.2
    have sN : ∀ b, b < nX σ → sa σ (nO σ 13) b := fun b hb => sa_nO hb
    have p2' : CalX (nO σ 13) (aCa A c) (aC A c) := CalX_sa (fun b hb => sN b (by rcases hb with q | q | q <;> exact WF_ne hw q)) p2
    have p1' : gP (nO σ 13) x 4 c = some (aCa A c) := by rw [(sN x xb).2.2.2.2]; exact p1
    unfold f_X1_ask_j89
    rw [cO_t (R_x h), Rv13 h]
    simp only [T_wS]
    rw [cO_t (sa_oc (sN x xb) (R_x h)), p1']
    simp only [T_ck, T_nnS, T_cO, T_bind, X2_day p2' qd, T_some]
    generalize hD : dayC (aC A c) y m d = D at db
    refine ⟨by omega, p2'.1, ?_⟩
    unfold f_X15_init
    simp only [T_ck, T_wS, T_some]
    refine ⟨by rw [cL_nO, if_pos rfl], ?_⟩
    generalize hσb : sI (sI (sI (sI (sI (sI (sI (sI (nO σ 13) (nX σ) 0 0 mo) (nX σ) 1 0 c) (nX σ) 2 0 y) (nX σ) 3 0 m) (nX σ) 4 0 d) (nX σ) 5 0 D) (nX σ) 6 0 an) (nX σ) 7 0 te = σb
    have fb : Fr (fun a _ _ => a = nX σ) (nO σ 13) σb := by rw [← hσb]; exact Fr_t (Fr_sI rfl) (Fr_t (Fr_sI rfl) (Fr_t (Fr_sI rfl) (Fr_t (Fr_sI rfl) (Fr_t (Fr_sI rfl) (Fr_t (Fr_sI rfl) (Fr_t (Fr_sI rfl) (Fr_sI rfl)))))))
    have sB : ∀ b, b < nX σ → sa σ σb b := fun b hb => sa_t (sN b hb) (Fr_sa fb (fun k i q => by omega))
    have cN : cL σb (nX σ) = some 13 := by rw [fb.1, cL_nO, if_pos rfl]
    have oN : oc σb (nX σ) 13 := ⟨cN, fun k hk => by simp [AF] at hk⟩
    have gN : gI σb (nX σ) 0 0 = mo ∧ gI σb (nX σ) 1 0 = c ∧ gI σb (nX σ) 2 0 = y ∧ gI σb (nX σ) 3 0 = m ∧ gI σb (nX σ) 4 0 = d ∧ gI σb (nX σ) 5 0 = D ∧ gI σb (nX σ) 6 0 = an ∧ gI σb (nX σ) 7 0 = te := by rw [← hσb]; simp [gI_sI]
    have sx := sB x xb
    refine ⟨sa_oc sx (R_x h), by rw [sx.2.1], oN, by omega, ?_⟩
    have x13 : gI (sP σb x 12 ((aV A 13 0)) (some (nX σ))) x 13 0 = (aV A 13 0) := by rw [gI_sP, sx.2.2.1]; exact Rv13 h 0
    rw [x13]
    have hvx : ∀ k i, ¬ (k = 8 ∨ k = 11 ∨ k = 21) → gI (sI (sP σb x 12 ((aV A 13 0)) (some (nX σ))) x 13 0 ((aV A 13 0) + 1)) x k i = upv (aV A) 13 0 ((aV A 13 0) + 1) k i := hv_up (fun k i hk => by rw [gI_sP, sx.2.2.1]; exact R_v h hk)
    generalize hσ1 : sI (sP σb x 12 ((aV A 13 0)) (some (nX σ))) x 13 0 ((aV A 13 0) + 1) = σ1 at hvx ⊢
    have s1b : ∀ b, ¬ b = x → sa σb σ1 b := fun b hb => by rw [← hσ1]; exact sa_t (sa_sP hb) (sa_sI hb)
    have s1 : ∀ b, b < nX σ → ¬ b = x → sa σ σ1 b := fun b hb hx => sa_t (sB b hb) (s1b b hx)
    have x13' : gI σ1 x 13 0 = (aV A 13 0) + 1 := by rw [← hσ1, gI_sI, if_pos ⟨rfl, rfl, rfl⟩]
    have sO := s1 o ob ne
    have gO : gI σ1 o = gI σ o := sO.2.2.1
    rw [x13']
    refine ⟨by omega, ?_⟩
    unfold f_X6_ask f_X6_ask_j42
    rw [cO_t (sa_oc sO (R_o h)), gO, hM.1.2.1]
    simp only [T_bind, T_some, T_cEq, bI_R, true_and, bI_0, Bool.not_eq_false, X6_isB hmo (by omega : inR 0) (by omega : inR 999), T_cLt, T_ck, T_cO, isDatM h sO hc hy hm hd, X6_isB han (by omega : inR 0) (by omega : inR 6), X6_isB hte (by omega : inR 0) (by omega : inR 9999), gO, hM.1.2.1, T_wS]
    have kk : ∀ τ j i' w', gI τ o 49 0 = (aV A 13 0) → ¬ j = 49 → gI (sI τ o j i' w') o 49 0 = (aV A 13 0) := fun τ j i' w' q hj => by rw [gI_sI, if_neg (by omega)]; exact q
    have k0 : gI σ1 o 49 0 = (aV A 13 0) := by rw [gO]; exact hM.1.2.1
    have k1 := kk σ1 42 ((aV A 13 0)) mo k0 (by omega)
    have k2 := kk _ 43 ((aV A 13 0)) c k1 (by omega)
    have k3 := kk _ 44 ((aV A 13 0)) y k2 (by omega)
    have k4 := kk _ 45 ((aV A 13 0)) m k3 (by omega)
    have k5 := kk _ 46 ((aV A 13 0)) d k4 (by omega)
    have k6 := kk _ 47 ((aV A 13 0)) an k5 (by omega)
    have k7 := kk _ 48 ((aV A 13 0)) te k6 (by omega)
    rw [k1, k2, k3, k4, k5, k6, k7]
    generalize hσ2 : sI (sI (sI (sI (sI (sI (sI (sI σ1 o 42 ((aV A 13 0)) mo) o 43 ((aV A 13 0)) c) o 44 ((aV A 13 0)) y) o 45 ((aV A 13 0)) m) o 46 ((aV A 13 0)) d) o 47 ((aV A 13 0)) an) o 48 ((aV A 13 0)) te) o 49 0 ((aV A 13 0) + 1) = σ2
    have k49 : gI σ2 o 49 0 = (aV A 13 0) + 1 := by rw [← hσ2, gI_sI, if_pos ⟨rfl, rfl, rfl⟩]
    have f2 : Fr (fun a k _ => a = o ∧ (k = 1 ∨ k = 2 ∨ 42 ≤ k)) σ1 σ2 := by rw [← hσ2]; exact Fr_t (Fr_sI ⟨rfl, by omega⟩) (Fr_t (Fr_sI ⟨rfl, by omega⟩) (Fr_t (Fr_sI ⟨rfl, by omega⟩) (Fr_t (Fr_sI ⟨rfl, by omega⟩) (Fr_t (Fr_sI ⟨rfl, by omega⟩) (Fr_t (Fr_sI ⟨rfl, by omega⟩) (Fr_t (Fr_sI ⟨rfl, by omega⟩) (Fr_sI ⟨rfl, by omega⟩)))))))
    have eo : ∀ j i, ¬ (42 ≤ j ∧ j ≤ 49) → gI σ2 o j i = gI σ o j i := fun j i hj => by rw [← hσ2, gI_sI, if_neg (by omega), gI_sI, if_neg (by omega), gI_sI, if_neg (by omega), gI_sI, if_neg (by omega), gI_sI, if_neg (by omega), gI_sI, if_neg (by omega), gI_sI, if_neg (by omega), gI_sI, if_neg (by omega), gO]
    have eq' : ∀ i, gI σ2 o 42 i = (if i = (aV A 13 0) then mo else gI σ o 42 i) ∧ gI σ2 o 43 i = (if i = (aV A 13 0) then c else gI σ o 43 i) ∧ gI σ2 o 44 i = (if i = (aV A 13 0) then y else gI σ o 44 i) ∧ gI σ2 o 45 i = (if i = (aV A 13 0) then m else gI σ o 45 i) ∧ gI σ2 o 46 i = (if i = (aV A 13 0) then d else gI σ o 46 i) ∧ gI σ2 o 47 i = (if i = (aV A 13 0) then an else gI σ o 47 i) ∧ gI σ2 o 48 i = (if i = (aV A 13 0) then te else gI σ o 48 i) := fun i => by rw [← hσ2]; simp only [gI_sI, gO]; simp
    rw [k49]
    have fin : ∃ A', RR x o A' σ2 := by
      refine ⟨mkA A (upv (aV A) 13 0 ((aV A 13 0) + 1)) (fun j k => if k = (aV A 13 0) then gI σb (nX σ) j 0 else aQ A j k) (fun k => if k = (aV A 13 0) then nX σ else aAa A k) (aBy A, aBm A, aBd A), ?_⟩
      have vo : ∀ j i, ¬ j = 13 → upv (aV A) 13 0 ((aV A 13 0) + 1) j i = aV A j i := fun j i hj => by unfold upv; rw [if_neg (by omega)]
      have v13 : upv (aV A) 13 0 ((aV A 13 0) + 1) 13 0 = (aV A 13 0) + 1 := by simp [upv]
      generalize upv (aV A) 13 0 ((aV A 13 0) + 1) = vv at hvx vo v13 ⊢
      have w1 : WF σ1 := by
        rw [← hσ1]
        intro b hb
        have e1 : nX (sI (sP σb x 12 ((aV A 13 0)) (some (nX σ))) x 13 0 ((aV A 13 0) + 1)) = nX σ + 1 := by show nX σb = _; rw [fb.2.2.2.1]; rfl
        rw [e1] at hb
        show cL σb b = none
        rw [fb.1, cL_nO, if_neg (by omega)]
        exact hw b (by omega)
      refine RR_upd2 h s1 (by rw [← hσ1]; exact sa_oc sx (R_x h)) (fun k i hk => by rw [← hσ1]; show gP (sP σb x 12 ((aV A 13 0)) (some (nX σ))) x k i = _; rw [gP_sP, if_neg (by omega), sx.2.2.2.2]) w1 f2 (vo 6 0 (by omega)) (vo 7 0 (by omega)) hvx (fun k k1 k2 => ?_) (AOK_q h.2.1 vo v13 (by omega) (fun j k hk => by simp only [if_neg hk]) ?_ ?_) (RMv_q hM eo vo (by rw [v13]; exact k49) (fun k k1 k2 => ?_))
      · have k2 : k < vv 13 0 := k2
        rw [v13] at k2
        show gP σ1 x 12 k = some (if k = (aV A 13 0) then nX σ else aAa A k) ∧ oc σ1 (if k = (aV A 13 0) then nX σ else aAa A k) 13 ∧ ∀ j, j < 8 → gI σ1 (if k = (aV A 13 0) then nX σ else aAa A k) j 0 = (if k = (aV A 13 0) then gI σb (nX σ) j 0 else aQ A j k)
        have gp : gP σ1 x 12 k = if k = (aV A 13 0) then some (nX σ) else gP σ x 12 k := by
          rw [← hσ1]; show gP (sP σb x 12 ((aV A 13 0)) (some (nX σ))) x 12 k = _
          rw [gP_sP]
          by_cases ck : k = (aV A 13 0)
          · rw [if_pos ⟨rfl, rfl, ck⟩, if_pos ck]
          · rw [if_neg (fun q => ck q.2.2), if_neg ck, sx.2.2.2.2]
        by_cases ck : k = (aV A 13 0)
        · have sn := s1b (nX σ) (by omega)
          rw [gp, if_pos ck, if_pos ck]
          refine ⟨rfl, sa_oc sn oN, fun j _ => ?_⟩
          rw [if_pos ck, sn.2.2.1]
        · obtain ⟨q1, q2, q3⟩ := R_q h k1 (by omega : k < (aV A 13 0))
          have sq := s1 (aAa A k) (WF_ne hw q2.1) (fun e => by have c13 := q2.1; rw [e, (R_x h).1] at c13; simp at c13)
          rw [gp, if_neg ck, if_neg ck]
          refine ⟨q1, sa_oc sq q2, fun j hj => ?_⟩
          rw [if_neg ck, sq.2.2.1]; exact q3 j hj
      · obtain ⟨n0, n1, n2, n3, n4, n5, n6, n7⟩ := gN
        simp only [if_true, n0, n1, n2, n3, n4, n5, n6, n7]
        exact ⟨⟨qc, qd⟩, hD.symm, mb, ab, tb⟩
      · intro q
        simp only [if_true, gN.1]
        exact g6 q
      · rw [v13] at k2
        obtain ⟨u1, u2, u3, u4, u5, u6, u7⟩ := eq' k
        obtain ⟨n0, n1, n2, n3, n4, n5, n6, n7⟩ := gN
        rw [u1, u2, u3, u4, u5, u6, u7]
        by_cases ck : k = (aV A 13 0)
        · simp only [if_pos ck, n0, n1, n2, n3, n4, n6, n7, and_self]
        · simp only [if_neg ck]; exact R_mq h k1 (by omega)
    have jn : ∀ P : Prop, (P ∧ ∃ A', RR x o A' σ2) → (P ∧ ∃ A', RR x o A' σ2) := fun _ q => q
    have lastm : 0 < (aV A 13 0) → gI σ o 42 ((aV A 13 0) - 1) = aQ A 0 ((aV A 13 0) - 1) := fun q => (R_mq h (k := (aV A 13 0) - 1) (by omega) (by omega)).1
    have qa : 0 < (aV A 13 0) → (0 ≤ aQ A 0 ((aV A 13 0) - 1) ∧ aQ A 0 ((aV A 13 0) - 1) ≤ 999) := fun q => (R_qa h (k := (aV A 13 0) - 1) (by omega) (by omega)).2.2.1
    have body : (oc σ1 o 5 ∧ (isD A c y m d = false → -1 = (aV A 13 0) + 1 - 1 ∧ ∃ A', RR x o A' σ1) ∧ (isD A c y m d = true → (isB an 0 6 = false → -1 = (aV A 13 0) + 1 - 1 ∧ ∃ A', RR x o A' σ1) ∧ (isB an 0 6 = true → (isB te 0 9999 = false → -1 = (aV A 13 0) + 1 - 1 ∧ ∃ A', RR x o A' σ1) ∧ (isB te 0 9999 = true → (inR ((aV A 13 0)) ∧ inR 60) ∧ ((aV A 13 0) = 60 → -1 = (aV A 13 0) + 1 - 1 ∧ ∃ A', RR x o A' σ1) ∧ (¬ (aV A 13 0) = 60 → (0 ≤ (aV A 13 0) ∧ (aV A 13 0) < 60) ∧ (0 ≤ (aV A 13 0) ∧ (aV A 13 0) < 60) ∧ (0 ≤ (aV A 13 0) ∧ (aV A 13 0) < 60) ∧ (0 ≤ (aV A 13 0) ∧ (aV A 13 0) < 60) ∧ (0 ≤ (aV A 13 0) ∧ (aV A 13 0) < 60) ∧ (0 ≤ (aV A 13 0) ∧ (aV A 13 0) < 60) ∧ (0 ≤ (aV A 13 0) ∧ (aV A 13 0) < 60) ∧ (aV A 13 0) + 1 - 1 = (aV A 13 0) + 1 - 1 ∧ ∃ A', RR x o A' σ2))))) := by
      refine ⟨sa_oc sO (R_o h), fun q => (by rw [g2] at q; cases q), fun _ => ⟨fun q => (by rw [g3] at q; cases q), fun _ => ⟨fun q => (by rw [g4] at q; cases q), fun _ => ⟨by omega, fun q => absurd q g5, fun _ => ⟨by omega, by omega, by omega, by omega, by omega, by omega, by omega, rfl, fin⟩⟩⟩⟩⟩
    exact ⟨fun q => (by rw [g1] at q; cases q), fun _ => ⟨by omega, fun z => ⟨by omega, fun z1 => absurd z1 (by omega), fun z1 => ⟨by omega, ⟨hmo, by rw [lastm z]; have := qa z; omega⟩, fun z2 => absurd z2 (by rw [lastm z]; have := g6 z; omega), fun z2 => body⟩⟩, fun z => body⟩⟩
  unfold BothT f_X1_ask
  rw [cO_t (R_x h), Rv13 h]
  simp only [T_cEq, T_some, T_bind, T_ck, X1_isB (by omega : inL mo) (by omega : inL 0) (by omega : inL 999), X1_isDate h hc hy hm hd, X1_isB (by omega : inL an) (by omega : inL 0) (by omega : inL 6), X1_isB (by omega : inL te) (by omega : inL 0) (by omega : inL 9999), bI_R, true_and, bI_0, Bool.not_eq_false, T_cLt]
  refine ⟨by omega, fun z => ⟨by omega, same (Or.inl z)⟩, fun z => ⟨hmo, fun e => ⟨by omega, same (Or.inr (Or.inl e))⟩, fun e => ⟨fun e1 => ⟨by omega, same (Or.inr (Or.inr (Or.inl e1)))⟩, fun e1 => ⟨han, fun e2 => ⟨by omega, same (Or.inr (Or.inr (Or.inr (Or.inl e2))))⟩, fun e2 => ⟨hte, fun e3 => ⟨by omega, same (Or.inr (Or.inr (Or.inr (Or.inr (Or.inl e3)))))⟩, fun e3 => ⟨by omega, fun z1 => ⟨by omega, ?_⟩, fun z1 => main e e1 e2 e3 z (fun q => absurd q z1)⟩⟩⟩⟩⟩⟩
  obtain ⟨q1, q2, q3⟩ := R_q h (k := (aV A 13 0) - 1) (by omega) (by omega)
  have qa := (R_qa h (k := (aV A 13 0) - 1) (by omega) (by omega)).2.2.1
  rw [q1]
  simp only [T_nnS, T_cO, q3 0 (by omega), T_cLt, T_some]
  exact ⟨q2, by omega, fun z2 => ⟨by omega, same (Or.inr (Or.inr (Or.inr (Or.inr (Or.inr ⟨z1, z2⟩)))))⟩, fun z2 => main e e1 e2 e3 z (fun _ => by omega)⟩
end
