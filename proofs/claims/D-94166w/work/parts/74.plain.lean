/-! ask -/
set_option maxRecDepth 100000
section
variable {σ σ1 σ2 σb : St} {x o a b : Nat} {A A' : AS} {g c y m d v k s p w i mo an te D : Int}
theorem ask_no (h : RR x o A σ) (hmo : inR mo) (hc : inR c) (hy : inR y) (hm : inR m) (hd : inR d) (han : inR an) (hte : inR te) (hh : (aV A 13 0) = 60 ∨ isB mo 0 999 = false ∨ isD A c y m d = false ∨ isB an 0 6 = false ∨ isB te 0 9999 = false ∨ (0 < (aV A 13 0) ∧ mo < aQ A 0 ((aV A 13 0) - 1))) : T (f_X6_ask σ o mo c y m d an te) (fun r2 => r2.1 = -1 ∧ ∃ A', RR x o A' r2.2) := by
    have n := R_n h
    have hM := RMv_of h.2.2.2
    have j42 : ¬ (0 < (aV A 13 0) ∧ mo < aQ A 0 ((aV A 13 0) - 1)) → isB mo 0 999 = true → T (f_X6_ask_j42 o mo c y m d an te σ) (fun r2 => r2.1 = -1 ∧ ∃ A', RR x o A' r2.2) := by
      intro g1 g2
      unfold f_X6_ask_j42
      rw [cO_t (R_o h), hM.1.2.1]
      simp only [T_bind, T_some, T_cEq, bI_R, true_and, bI_0, Bool.not_eq_false, X6_isDat h hc hy hm hd, X6_isB han (by omega : inR 0) (by omega : inR 6), X6_isB hte (by omega : inR 0) (by omega : inR 9999)]
      refine ⟨fun e => ⟨A, h⟩, fun e => ⟨fun e1 => ⟨A, h⟩, fun e1 => ⟨fun e2 => ⟨A, h⟩, fun e2 => ⟨by omega, fun z => ⟨A, h⟩, fun z => ?_⟩⟩⟩⟩
      rcases hh with q | q | q | q | q | q
      · exact absurd q z
      · rw [g2] at q; cases q
      · rw [e] at q; cases q
      · rw [e1] at q; cases q
      · rw [e2] at q; cases q
      · exact absurd q g1
    unfold f_X6_ask
    rw [cO_t (R_o h), hM.1.2.1]
    simp only [T_bind, T_some, T_cEq, bI_R, true_and, bI_0, Bool.not_eq_false, X6_isB hmo (by omega : inR 0) (by omega : inR 999), T_cLt, T_ck]
    refine ⟨fun e => ⟨A, h⟩, fun e => ⟨by omega, fun z => ⟨by omega, fun z1 => by omega, fun z1 => ⟨by omega, ?_⟩⟩, fun z => j42 (fun q => z q.1) e⟩⟩
    have qa := (R_qa h (k := (aV A 13 0) - 1) (by omega) (by omega)).2.2.1
    rw [(R_mq h (k := (aV A 13 0) - 1) (by omega) (by omega)).1]
    exact ⟨by omega, fun z2 => ⟨A, h⟩, fun z2 => j42 (fun q => z2 q.2) e⟩
/-- what the model writes -/
def askW (σ : St) (o : Nat) (nq mo c y m d an te : Int) (σ2 : St) : Prop := gI σ2 o 49 0 = nq + 1 ∧ Fr (fun a k _ => a = o ∧ (k = 1 ∨ k = 2 ∨ 42 ≤ k)) σ σ2 ∧ (∀ j i, ¬ (42 ≤ j ∧ j ≤ 49) → gI σ2 o j i = gI σ o j i) ∧ ∀ i, gI σ2 o 42 i = (if i = nq then mo else gI σ o 42 i) ∧ gI σ2 o 43 i = (if i = nq then c else gI σ o 43 i) ∧ gI σ2 o 44 i = (if i = nq then y else gI σ o 44 i) ∧ gI σ2 o 45 i = (if i = nq then m else gI σ o 45 i) ∧ gI σ2 o 46 i = (if i = nq then d else gI σ o 46 i) ∧ gI σ2 o 47 i = (if i = nq then an else gI σ o 47 i) ∧ gI σ2 o 48 i = (if i = nq then te else gI σ o 48 i)
theorem askW_of (nq : Int) : askW σ o nq mo c y m d an te (sI (sI (sI (sI (sI (sI (sI (sI σ o 42 nq mo) o 43 nq c) o 44 nq y) o 45 nq m) o 46 nq d) o 47 nq an) o 48 nq te) o 49 0 (nq + 1)) := by
  refine ⟨by rw [gI_sI, if_pos ⟨rfl, rfl, rfl⟩], Fr_t (Fr_sI ⟨rfl, by omega⟩) (Fr_t (Fr_sI ⟨rfl, by omega⟩) (Fr_t (Fr_sI ⟨rfl, by omega⟩) (Fr_t (Fr_sI ⟨rfl, by omega⟩) (Fr_t (Fr_sI ⟨rfl, by omega⟩) (Fr_t (Fr_sI ⟨rfl, by omega⟩) (Fr_t (Fr_sI ⟨rfl, by omega⟩) (Fr_sI ⟨rfl, by omega⟩))))))), fun j i hj => ?_, fun i => ?_⟩
  · rw [gI_sI, if_neg (by omega), gI_sI, if_neg (by omega), gI_sI, if_neg (by omega), gI_sI, if_neg (by omega), gI_sI, if_neg (by omega), gI_sI, if_neg (by omega), gI_sI, if_neg (by omega), gI_sI, if_neg (by omega)]
  · simp only [gI_sI]; simp
theorem ask_j42 (ho : oc σ1 o 5) (k0 : gI σ1 o 49 0 = v) (v0 : 0 ≤ v) (v6 : v < 60) (han : inR an) (hte : inR te) (hD : f_X6_isDate σ1 o c y m d = some (bI true)) (g3 : isB an 0 6 = true) (g4 : isB te 0 9999 = true) : T (f_X6_ask_j42 o mo c y m d an te σ1) (fun r => r.1 = v ∧ askW σ1 o v mo c y m d an te r.2) := by
  unfold f_X6_ask_j42
  rw [cO_t ho, k0, hD]
  have kk : ∀ τ j i' w', gI τ o 49 0 = v → ¬ j = 49 → gI (sI τ o j i' w') o 49 0 = v := fun τ j i' w' q hj => by rw [gI_sI, if_neg (by omega)]; exact q
  have k1 := kk σ1 42 v mo k0 (by omega)
  have k2 := kk _ 43 v c k1 (by omega)
  have k3 := kk _ 44 v y k2 (by omega)
  have k4 := kk _ 45 v m k3 (by omega)
  have k5 := kk _ 46 v d k4 (by omega)
  have k6 := kk _ 47 v an k5 (by omega)
  have k7 := kk _ 48 v te k6 (by omega)
  have aw := askW_of (σ := σ1) (o := o) (mo := mo) (c := c) (y := y) (m := m) (d := d) (an := an) (te := te) v
  simp only [T_bind, T_some, T_cEq, bI_R, true_and, bI_0, Bool.not_eq_false, X6_isB han (by omega : inR 0) (by omega : inR 6), X6_isB hte (by omega : inR 0) (by omega : inR 9999), T_ck, T_wS, k1, k2, k3, k4, k5, k6, k7, aw.1]
  refine ⟨fun q => (by cases q), fun _ => ⟨fun q => (by rw [g3] at q; cases q), fun _ => ⟨fun q => (by rw [g4] at q; cases q), fun _ => ⟨by omega, fun q => by omega, fun _ => ⟨by omega, by omega, by omega, by omega, by omega, by omega, by omega, by omega, aw⟩⟩⟩⟩⟩
theorem ask_M (h : RR x o A σ) (sO : sa σ σ1 o) (hmo : inR mo) (hc : inR c) (hy : inR y) (hm : inR m) (hd : inR d) (han : inR an) (hte : inR te) (g1 : isB mo 0 999 = true) (g2 : isD A c y m d = true) (g3 : isB an 0 6 = true) (g4 : isB te 0 9999 = true) (g5 : ¬ (aV A 13 0) = 60) (g6 : 0 < (aV A 13 0) → aQ A 0 ((aV A 13 0) - 1) ≤ mo) : T (f_X6_ask σ1 o mo c y m d an te) (fun r => r.1 = (aV A 13 0) ∧ askW σ1 o ((aV A 13 0)) mo c y m d an te r.2) := by
  have n := R_n h
  have hM := RMv_of h.2.2.2
  have gO : gI σ1 o = gI σ o := sO.2.2.1
  have k0 : gI σ1 o 49 0 = (aV A 13 0) := by rw [gO]; exact hM.1.2.1
  have J := ask_j42 (mo := mo) (sa_oc sO (R_o h)) k0 (by omega) (by omega) han hte (by rw [isDatM h sO hc hy hm hd, g2]) g3 g4
  unfold f_X6_ask
  rw [cO_t (sa_oc sO (R_o h)), k0]
  simp only [T_bind, T_some, T_cEq, bI_R, true_and, bI_0, Bool.not_eq_false, X6_isB hmo (by omega : inR 0) (by omega : inR 999), T_cLt, T_ck]
  refine ⟨fun q => (by rw [g1] at q; cases q), fun _ => ⟨by omega, fun z => ⟨by omega, fun z1 => absurd z1 (by omega), fun z1 => ⟨by omega, ?_⟩⟩, fun z => J⟩⟩
  have lm : gI σ1 o 42 ((aV A 13 0) - 1) = aQ A 0 ((aV A 13 0) - 1) := by rw [gO]; exact (R_mq h (k := (aV A 13 0) - 1) (by omega) (by omega)).1
  have qa := (R_qa h (k := (aV A 13 0) - 1) (by omega) (by omega)).2.2.1
  have := g6 z
  rw [lm]
  exact ⟨by omega, fun z2 => absurd z2 (by omega), fun _ => J⟩
/-- what DayBoy writes -/
def askX (σ : St) (x : Nat) (nq mo c y m d D an te : Int) (σ1 : St) : Prop := (∀ b, b < nX σ → ¬ b = x → sa σ σ1 b) ∧ (cL σ1 x = cL σ x ∧ aR σ1 x = aR σ x) ∧ (∀ k i, ¬ (k = 13 ∧ i = 0) → gI σ1 x k i = gI σ x k i) ∧ gI σ1 x 13 0 = nq + 1 ∧ (∀ k i, gP σ1 x k i = if k = 12 ∧ i = nq then some (nX σ) else gP σ x k i) ∧ nX σ1 = nX σ + 1 ∧ (∀ b, nX σ + 1 ≤ b → cL σ1 b = cL σ b) ∧ oc σ1 (nX σ) 13 ∧ (gI σ1 (nX σ) 0 0 = mo ∧ gI σ1 (nX σ) 1 0 = c ∧ gI σ1 (nX σ) 2 0 = y ∧ gI σ1 (nX σ) 3 0 = m ∧ gI σ1 (nX σ) 4 0 = d ∧ gI σ1 (nX σ) 5 0 = D ∧ gI σ1 (nX σ) 6 0 = an ∧ gI σ1 (nX σ) 7 0 = te)
theorem askX_of (xb : x < nX σ) (nq : Int) : askX σ x nq mo c y m d D an te (sI (sP (sI (sI (sI (sI (sI (sI (sI (sI (nO σ 13) (nX σ) 0 0 mo) (nX σ) 1 0 c) (nX σ) 2 0 y) (nX σ) 3 0 m) (nX σ) 4 0 d) (nX σ) 5 0 D) (nX σ) 6 0 an) (nX σ) 7 0 te) x 12 nq (some (nX σ))) x 13 0 (nq + 1)) := by
  generalize hσb : sI (sI (sI (sI (sI (sI (sI (sI (nO σ 13) (nX σ) 0 0 mo) (nX σ) 1 0 c) (nX σ) 2 0 y) (nX σ) 3 0 m) (nX σ) 4 0 d) (nX σ) 5 0 D) (nX σ) 6 0 an) (nX σ) 7 0 te = σb
  have fb : Fr (fun a _ _ => a = nX σ) (nO σ 13) σb := by rw [← hσb]; exact Fr_t (Fr_sI rfl) (Fr_t (Fr_sI rfl) (Fr_t (Fr_sI rfl) (Fr_t (Fr_sI rfl) (Fr_t (Fr_sI rfl) (Fr_t (Fr_sI rfl) (Fr_t (Fr_sI rfl) (Fr_sI rfl)))))))
  have sB : ∀ b, b < nX σ → sa σ σb b := fun b hb => sa_t (sa_nO hb) (Fr_sa fb (fun k i q => by omega))
  have gN : gI σb (nX σ) 0 0 = mo ∧ gI σb (nX σ) 1 0 = c ∧ gI σb (nX σ) 2 0 = y ∧ gI σb (nX σ) 3 0 = m ∧ gI σb (nX σ) 4 0 = d ∧ gI σb (nX σ) 5 0 = D ∧ gI σb (nX σ) 6 0 = an ∧ gI σb (nX σ) 7 0 = te := by rw [← hσb]; simp [gI_sI]
  have sx := sB x xb
  have sn : sa σb (sI (sP σb x 12 nq (some (nX σ))) x 13 0 (nq + 1)) (nX σ) := sa_t (sa_sP (by omega)) (sa_sI (by omega))
  refine ⟨fun b hb hx => sa_t (sB b hb) (sa_t (sa_sP hx) (sa_sI hx)), ⟨sx.1, sx.2.1⟩, fun k i hk => ?_, by rw [gI_sI, if_pos ⟨rfl, rfl, rfl⟩], fun k i => ?_, ?_, fun b hb => ?_, ?_, ?_⟩
  · rw [gI_sI, if_neg (fun q => hk q.2), gI_sP, sx.2.2.1]
  · show gP (sP σb x 12 nq (some (nX σ))) x k i = _
    rw [gP_sP]
    by_cases ck : k = 12 ∧ i = nq
    · rw [if_pos ⟨rfl, ck⟩, if_pos ck]
    · rw [if_neg (fun q => ck q.2), if_neg ck, sx.2.2.2.2]
  · show nX σb = _; rw [fb.2.2.2.1]; rfl
  · show cL σb b = _; rw [fb.1, cL_nO, if_neg (by omega)]
  · exact sa_oc sn ⟨by rw [fb.1, cL_nO, if_pos rfl], fun k hk => by simp [AF] at hk⟩
  · rw [sn.2.2.1]; exact gN
theorem ask_X (h : RR x o A σ) (g2 : isD A c y m d = true) (g5 : ¬ (aV A 13 0) = 60) : T (f_X1_ask_j89 x mo c y m d an te σ) (fun r => r.1 = (aV A 13 0) ∧ askX σ x ((aV A 13 0)) mo c y m d (dayC (aC A c) y m d) an te r.2) := by
  have n := R_n h
  have hw := h.1
  have xb := WF_ne hw (R_x h).1
  obtain ⟨qc, qd⟩ := isD_t.mp g2
  obtain ⟨p1, p2⟩ := R_cal h qc.1 qc.2
  have sN : ∀ b, b < nX σ → sa σ (nO σ 13) b := fun b hb => sa_nO hb
  have p2' : CalX (nO σ 13) (aCa A c) (aC A c) := CalX_sa (fun b hb => sN b (by rcases hb with q | q | q <;> exact WF_ne hw q)) p2
  have p1' : gP (nO σ 13) x 4 c = some (aCa A c) := by rw [(sN x xb).2.2.2.2]; exact p1
  have ax := askX_of (σ := σ) (x := x) (mo := mo) (c := c) (y := y) (m := m) (d := d) (D := dayC (aC A c) y m d) (an := an) (te := te) xb ((aV A 13 0))
  unfold f_X1_ask_j89
  rw [cO_t (R_x h), Rv13 h]
  simp only [T_wS]
  rw [cO_t (sa_oc (sN x xb) (R_x h)), p1']
  simp only [T_ck, T_nnS, T_cO, T_bind, X2_day p2' qd, T_some]
  refine ⟨by omega, p2'.1, ?_⟩
  unfold f_X15_init
  simp only [T_ck, T_wS, T_some]
  refine ⟨by rw [cL_nO, if_pos rfl], ?_⟩
  generalize hD : dayC (aC A c) y m d = D at ax
  generalize hσb : sI (sI (sI (sI (sI (sI (sI (sI (nO σ 13) (nX σ) 0 0 mo) (nX σ) 1 0 c) (nX σ) 2 0 y) (nX σ) 3 0 m) (nX σ) 4 0 d) (nX σ) 5 0 D) (nX σ) 6 0 an) (nX σ) 7 0 te = σb at ax
  have fb : Fr (fun a _ _ => a = nX σ) (nO σ 13) σb := by rw [← hσb]; exact Fr_t (Fr_sI rfl) (Fr_t (Fr_sI rfl) (Fr_t (Fr_sI rfl) (Fr_t (Fr_sI rfl) (Fr_t (Fr_sI rfl) (Fr_t (Fr_sI rfl) (Fr_t (Fr_sI rfl) (Fr_sI rfl)))))))
  have sx : sa σ σb x := sa_t (sN x xb) (Fr_sa fb (fun k i q => by omega))
  have oN : oc σb (nX σ) 13 := ⟨by rw [fb.1, cL_nO, if_pos rfl], fun k hk => by simp [AF] at hk⟩
  have x13 : gI (sP σb x 12 ((aV A 13 0)) (some (nX σ))) x 13 0 = (aV A 13 0) := by rw [gI_sP, sx.2.2.1]; exact Rv13 h 0
  rw [x13, ax.2.2.2.1]
  exact ⟨sa_oc sx (R_x h), by rw [sx.2.1], oN, by omega, by omega, ax⟩
theorem ask_fin (h : RR x o A σ) (ax : askX σ x ((aV A 13 0)) mo c y m d (dayC (aC A c) y m d) an te σ1) (aw : askW σ1 o ((aV A 13 0)) mo c y m d an te σ2) (g1 : isB mo 0 999 = true) (g2 : isD A c y m d = true) (g3 : isB an 0 6 = true) (g4 : isB te 0 9999 = true) (g5 : ¬ (aV A 13 0) = 60) (g6 : 0 < (aV A 13 0) → aQ A 0 ((aV A 13 0) - 1) ≤ mo) : ∃ A', RR x o A' σ2 := by
  have n := R_n h
  have hM := RMv_of h.2.2.2
  have ne := x_ne_o h
  have hw := h.1
  have ob := WF_ne hw (R_o h).1
  obtain ⟨qc, qd⟩ := isD_t.mp g2
  obtain ⟨s1, ⟨cx, arx⟩, gx, x13, gp, nx1, cl1, oN, gN⟩ := ax
  obtain ⟨k49, f2, eo, eq'⟩ := aw
  have gO : gI σ1 o = gI σ o := (s1 o ob ne).2.2.1
  refine ⟨mkA A (upv (aV A) 13 0 ((aV A 13 0) + 1)) (fun j k => if k = (aV A 13 0) then gI σ1 (nX σ) j 0 else aQ A j k) (fun k => if k = (aV A 13 0) then nX σ else aAa A k) (aBy A, aBm A, aBd A), ?_⟩
  have hvx : ∀ k i, ¬ (k = 8 ∨ k = 11 ∨ k = 21) → gI σ1 x k i = upv (aV A) 13 0 ((aV A 13 0) + 1) k i := fun k i hk => by
    unfold upv
    by_cases c : k = 13 ∧ i = 0
    · rw [if_pos c, c.1, c.2]; exact x13
    · rw [if_neg c, gx k i c]; exact R_v h hk
  have vo : ∀ j i, ¬ j = 13 → upv (aV A) 13 0 ((aV A 13 0) + 1) j i = aV A j i := fun j i hj => by unfold upv; rw [if_neg (by omega)]
  have v13 : upv (aV A) 13 0 ((aV A 13 0) + 1) 13 0 = (aV A 13 0) + 1 := by simp [upv]
  generalize upv (aV A) 13 0 ((aV A 13 0) + 1) = vv at hvx vo v13 ⊢
  have w1 : WF σ1 := by
    intro b hb
    rw [nx1] at hb
    rw [cl1 b hb]; exact hw b (by omega)
  have ox : oc σ1 x 0 := by
    have := R_x h
    unfold oc at this ⊢
    rw [cx, arx]; exact this
  refine RR_upd2 h s1 ox (fun k i hk => by rw [gp, if_neg (fun q => hk q.1)]) w1 f2 (vo 6 0 (by omega)) (vo 7 0 (by omega)) hvx (fun k k1 k2 => ?_) (AOK_q h.2.1 vo v13 (by omega) (fun j k hk => by simp only [if_neg hk]) ?_ ?_) (RMv_q hM (fun j i hj => by rw [eo j i hj, gO]) vo (by rw [v13]; exact k49) (fun k k1 k2 => ?_))
  · have k2 : k < vv 13 0 := k2
    rw [v13] at k2
    show gP σ1 x 12 k = some (if k = (aV A 13 0) then nX σ else aAa A k) ∧ oc σ1 (if k = (aV A 13 0) then nX σ else aAa A k) 13 ∧ ∀ j, j < 8 → gI σ1 (if k = (aV A 13 0) then nX σ else aAa A k) j 0 = (if k = (aV A 13 0) then gI σ1 (nX σ) j 0 else aQ A j k)
    by_cases ck : k = (aV A 13 0)
    · rw [gp, if_pos ⟨rfl, ck⟩, if_pos ck]
      refine ⟨rfl, oN, fun j _ => ?_⟩
      rw [if_pos ck]
    · obtain ⟨q1, q2, q3⟩ := R_q h k1 (by omega : k < (aV A 13 0))
      have sq := s1 (aAa A k) (WF_ne hw q2.1) (fun e => by have c13 := q2.1; rw [e, (R_x h).1] at c13; simp at c13)
      rw [gp, if_neg (fun q => ck q.2), if_neg ck]
      refine ⟨q1, sa_oc sq q2, fun j hj => ?_⟩
      rw [if_neg ck, sq.2.2.1]; exact q3 j hj
  · obtain ⟨n0, n1, n2, n3, n4, n5, n6, n7⟩ := gN
    simp only [if_true, n0, n1, n2, n3, n4, n5, n6, n7]
    exact ⟨⟨qc, qd⟩, trivial, isB_t.mp g1, isB_t.mp g3, isB_t.mp g4⟩
  · intro q
    simp only [if_true, gN.1]
    exact g6 q
  · rw [v13] at k2
    obtain ⟨u1, u2, u3, u4, u5, u6, u7⟩ := eq' k
    obtain ⟨n0, n1, n2, n3, n4, n5, n6, n7⟩ := gN
    rw [u1, u2, u3, u4, u5, u6, u7]
    by_cases ck : k = (aV A 13 0)
    · simp only [if_pos ck, n0, n1, n2, n3, n4, n6, n7, and_self]
    · simp only [if_neg ck, gO]; exact R_mq h k1 (by omega)
theorem O_ask (h : RR x o A σ) (hmo : inR mo) (hc : inR c) (hy : inR y) (hm : inR m) (hd : inR d) (han : inR an) (hte : inR te) : BothT x o (f_X1_ask σ x mo c y m d an te) (fun σ' => f_X6_ask σ' o mo c y m d an te) := by
  have n := R_n h
  have ne := x_ne_o h
  have ob := WF_ne h.1 (R_o h).1
  have same := fun hh => ask_no h hmo hc hy hm hd han hte hh
  have main : isB mo 0 999 = true → isD A c y m d = true → isB an 0 6 = true → isB te 0 9999 = true → ¬ (aV A 13 0) = 60 → (0 < (aV A 13 0) → aQ A 0 ((aV A 13 0) - 1) ≤ mo) → T (f_X1_ask_j89 x mo c y m d an te σ) (fun r => inR r.1 ∧ T (f_X6_ask r.2 o mo c y m d an te) (fun r2 => r2.1 = r.1 ∧ ∃ A', RR x o A' r2.2)) := by
    intro g1 g2 g3 g4 g5 g6
    refine T_mono (ask_X (mo := mo) (an := an) (te := te) h g2 g5) (fun r ⟨e1, ax⟩ => ⟨by omega, ?_⟩)
    refine T_mono (ask_M h (ax.1 o ob ne) hmo hc hy hm hd han hte g1 g2 g3 g4 g5 g6) (fun r2 ⟨e2, aw⟩ => ⟨by rw [e2, e1], ask_fin h ax aw g1 g2 g3 g4 g5 g6⟩)
  unfold BothT f_X1_ask
  rw [cO_t (R_x h), Rv13 h]
  simp only [T_cEq, T_some, T_bind, T_ck, X1_isB (by omega : inL mo) (by omega : inL 0) (by omega : inL 999), X1_isDate h hc hy hm hd, X1_isB (by omega : inL an) (by omega : inL 0) (by omega : inL 6), X1_isB (by omega : inL te) (by omega : inL 0) (by omega : inL 9999), bI_R, true_and, bI_0, Bool.not_eq_false, T_cLt]
  refine ⟨by omega, fun z => ⟨by omega, same (Or.inl z)⟩, fun z => ⟨hmo, fun e => ⟨by omega, same (Or.inr (Or.inl e))⟩, fun e => ⟨fun e1 => ⟨by omega, same (Or.inr (Or.inr (Or.inl e1)))⟩, fun e1 => ⟨han, fun e2 => ⟨by omega, same (Or.inr (Or.inr (Or.inr (Or.inl e2))))⟩, fun e2 => ⟨hte, fun e3 => ⟨by omega, same (Or.inr (Or.inr (Or.inr (Or.inr (Or.inl e3)))))⟩, fun e3 => ⟨by omega, fun z1 => ⟨by omega, ?_⟩, fun z1 => main e e1 e2 e3 z (fun q => absurd q z1)⟩⟩⟩⟩⟩⟩
  obtain ⟨q1, q2, q3⟩ := R_q h (k := (aV A 13 0) - 1) (by omega) (by omega)
  have qa := (R_qa h (k := (aV A 13 0) - 1) (by omega) (by omega)).2.2.1
  rw [q1]
  simp only [T_nnS, T_cO, q3 0 (by omega), T_cLt, T_some]
  exact ⟨q2, by omega, fun z2 => ⟨by omega, same (Or.inr (Or.inr (Or.inr (Or.inr (Or.inr ⟨z1, z2⟩)))))⟩, fun z2 => main e e1 e2 e3 z (fun _ => by omega)⟩
end
