/-! the law (printed by gen.py, lawsplit.py) -/
set_option maxRecDepth 100000
set_option maxHeartbeats 40000000 in
theorem w_L_law {Γ : Ctx} {xs : Nat → Int} {L : Nat} {σ : St} {b : Nat} {w : Int} (X : Cx Γ cL_law "DayBoyLaw" ({ frames := 15, cells := 601024, slots := 7293034, locals := 634 } : Room)) (hnl : nLc Γ = 7) (htr : (lOf Γ).stackTraces = false) (hs : Scr Γ b L xs) (hLb : L < 2147483648)
    (hend : ∀ {σ : St} {k n pc : Nat} {lv : List (Nat × Value)}, k ≤ 601024 → n ≤ 7293034 → decode cL_law pc = .ok (.ireturn, 1) → V Γ σ k n pc lv [iv 1]) (h : f_L_law xs L σ b = some w) (hw : w = 1) : V Γ σ 0 0 0 [(0, .ref (b))] [] := by
  have hL : ∀ i, i < 7 → i < nLc Γ := fun i q => by rw [hnl]; exact q
  unfold f_L_law at h
  refine r_new (c := 0) (N := 28) X rfl rfl (by decide) q127 q128 q104 dL_law_0 (by decide) (by decide) ?_
  refine r_let h (fun σ1 eσ1 h => ?_)
  have hk2 : cL σ1 (nX (σ)) = some 0 := by rw [eσ1, cL_nO, if_pos rfl]
  refine r_dup X dL_law_3 rfl ?_
  obtain ⟨σ4, h3, h⟩ := bd_some h
  refine r_cI (Wd := 1) X (fun l D sz => w_X1_init l D sz h3) rfl rfl q130 q129 q104 q131 hy_X1_init rfl dL_law_4 rfl rfl (Nat.le_of_ble_eq_true rfl) ⟨Nat.le_of_ble_eq_true rfl, Nat.le_of_ble_eq_true rfl⟩ ⟨Nat.le_of_ble_eq_true rfl, Nat.le_of_ble_eq_true rfl⟩ ?_
  refine r_astore_n X dL_law_7 rfl (hL 1 (by decide)) (lv' := [(1, .ref (nX (σ))), (0, .ref (b))]) rfl ?_
  refine r_new (c := 5) (N := 71) X rfl rfl (by decide) q1233 q1234 q109 dL_law_8 (by decide) (by decide) ?_
  refine r_let h (fun σ5 eσ5 h => ?_)
  have hk6 : cL σ5 (nX (σ4)) = some 5 := by rw [eσ5, cL_nO, if_pos rfl]
  refine r_dup X dL_law_11 rfl ?_
  obtain ⟨σ8, h7, h⟩ := bd_some h
  refine r_cI (Wd := 1) X (fun l D sz => w_X6_init l D sz h7) rfl rfl q1236 q1235 q109 q1237 hy_X6_init rfl dL_law_12 rfl rfl (Nat.le_of_ble_eq_true rfl) ⟨Nat.le_of_ble_eq_true rfl, Nat.le_of_ble_eq_true rfl⟩ ⟨Nat.le_of_ble_eq_true rfl, Nat.le_of_ble_eq_true rfl⟩ ?_
  refine r_astore_n X dL_law_15 rfl (hL 2 (by decide)) (lv' := [(2, .ref (nX (σ4))), (1, .ref (nX (σ))), (0, .ref (b))]) rfl ?_
  refine r_iconst X dL_law_16 ?_
  obtain ⟨ho9, h⟩ := cO_some h
  refine r_newP X ho9.1 dL_law_17 (Nat.le_of_ble_eq_true rfl) (Nat.le_of_ble_eq_true rfl) ?_
  refine r_let h (fun σ10 eσ10 h => ?_)
  refine r_astore_n X dL_law_19 rfl (hL 3 (by decide)) (lv' := [(3, .ref (nX (σ8))), (2, .ref (nX (σ4))), (1, .ref (nX (σ))), (0, .ref (b))]) rfl ?_
  refine r_iconst X dL_law_20 ?_
  refine r_istore X dL_law_21 (hL 4 (by decide)) (lv' := [(4, iv (0)), (3, .ref (nX (σ8))), (2, .ref (nX (σ4))), (1, .ref (nX (σ))), (0, .ref (b))]) rfl ?_
  have L23 : ∀ s : Nat × Int × St, lp (fun s => f_L_law_b23 (xs) (L) (b) (nX (σ)) (nX (σ4)) (nX (σ8)) s.1 s.2.1 s.2.2) s = some w → V Γ (s.2.2) (112 + (64 - s.1) * 86) (504441 + (64 - s.1) * 40302) 23 [(0, .ref (b)), (1, .ref (nX (σ))), (2, .ref (nX (σ4))), (3, .ref (nX (σ8))), (4, iv (s.2.1))] [] := by
    refine lp_rule (P := fun s : Nat × Int × St => V Γ (s.2.2) (112 + (64 - s.1) * 86) (504441 + (64 - s.1) * 40302) 23 [(0, .ref (b)), (1, .ref (nX (σ))), (2, .ref (nX (σ4))), (3, .ref (nX (σ8))), (4, iv (s.2.1))] []) ?_
    intro s z1 h ihb1 ihe1
    obtain ⟨cn, v4_1, σ_1⟩ := s
    have h : f_L_law_b23 (xs) (L) (b) (nX (σ)) (nX (σ4)) (nX (σ8)) cn v4_1 σ_1 = some z1 := h
    unfold f_L_law_b23 at h
    show V Γ σ_1 (112 + (64 - cn) * 86) (504441 + (64 - cn) * 40302) 23 [(0, .ref (b)), (1, .ref (nX (σ))), (2, .ref (nX (σ4))), (3, .ref (nX (σ8))), (4, iv (v4_1))] []
    obtain ⟨⟨hn1, hn2⟩, h⟩ := ck_some h
    have J2543 := w_L_J2543 X hL htr hs hLb hw hn1 hn2 (z1 := z1) (p1 := nX (σ)) (p2 := nX (σ4)) (p3 := nX (σ8)) ihb1 ihe1
    have J2482 := w_L_J2482 X hL htr hs hLb hw hn1 hn2 (z1 := z1) (p1 := nX (σ)) (p2 := nX (σ4)) (p3 := nX (σ8)) ihb1 ihe1
    have J2433 := w_L_J2433 X hL htr hs hLb hw hn1 hn2 (z1 := z1) (p1 := nX (σ)) (p2 := nX (σ4)) (p3 := nX (σ8)) ihb1 ihe1
    have J2396 := w_L_J2396 X hL htr hs hLb hw hn1 hn2 (z1 := z1) (p1 := nX (σ)) (p2 := nX (σ4)) (p3 := nX (σ8)) ihb1 ihe1
    have J2335 := w_L_J2335 X hL htr hs hLb hw hn1 hn2 (z1 := z1) (p1 := nX (σ)) (p2 := nX (σ4)) (p3 := nX (σ8)) ihb1 ihe1
    have J2274 := w_L_J2274 X hL htr hs hLb hw hn1 hn2 (z1 := z1) (p1 := nX (σ)) (p2 := nX (σ4)) (p3 := nX (σ8)) ihb1 ihe1
    have J2187 := w_L_J2187 X hL htr hs hLb hw hn1 hn2 (z1 := z1) (p1 := nX (σ)) (p2 := nX (σ4)) (p3 := nX (σ8)) ihb1 ihe1
    have J2080 := w_L_J2080 X hL htr hs hLb hw hn1 hn2 (z1 := z1) (p1 := nX (σ)) (p2 := nX (σ4)) (p3 := nX (σ8)) ihb1 ihe1
    have J2031 := w_L_J2031 X hL htr hs hLb hw hn1 hn2 (z1 := z1) (p1 := nX (σ)) (p2 := nX (σ4)) (p3 := nX (σ8)) ihb1 ihe1
    have J2018 := w_L_J2018 X hL htr hs hLb hw hn1 hn2 (z1 := z1) (p1 := nX (σ)) (p2 := nX (σ4)) (p3 := nX (σ8)) ihb1 ihe1
    have J2005 := w_L_J2005 X hL htr hs hLb hw hn1 hn2 (z1 := z1) (p1 := nX (σ)) (p2 := nX (σ4)) (p3 := nX (σ8)) ihb1 ihe1
    have J1980 := w_L_J1980 X hL htr hs hLb hw hn1 hn2 (z1 := z1) (p1 := nX (σ)) (p2 := nX (σ4)) (p3 := nX (σ8)) ihb1 ihe1
    have J1919 := w_L_J1919 X hL htr hs hLb hw hn1 hn2 (z1 := z1) (p1 := nX (σ)) (p2 := nX (σ4)) (p3 := nX (σ8)) ihb1 ihe1
    have J1846 := w_L_J1846 X hL htr hs hLb hw hn1 hn2 (z1 := z1) (p1 := nX (σ)) (p2 := nX (σ4)) (p3 := nX (σ8)) ihb1 ihe1
    have J1785 := w_L_J1785 X hL htr hs hLb hw hn1 hn2 (z1 := z1) (p1 := nX (σ)) (p2 := nX (σ4)) (p3 := nX (σ8)) ihb1 ihe1
    have J1724 := w_L_J1724 X hL htr hs hLb hw hn1 hn2 (z1 := z1) (p1 := nX (σ)) (p2 := nX (σ4)) (p3 := nX (σ8)) ihb1 ihe1
    have J1675 := w_L_J1675 X hL htr hs hLb hw hn1 hn2 (z1 := z1) (p1 := nX (σ)) (p2 := nX (σ4)) (p3 := nX (σ8)) ihb1 ihe1
    have J1614 := w_L_J1614 X hL htr hs hLb hw hn1 hn2 (z1 := z1) (p1 := nX (σ)) (p2 := nX (σ4)) (p3 := nX (σ8)) ihb1 ihe1
    have J1565 := w_L_J1565 X hL htr hs hLb hw hn1 hn2 (z1 := z1) (p1 := nX (σ)) (p2 := nX (σ4)) (p3 := nX (σ8)) ihb1 ihe1
    have J1492 := w_L_J1492 X hL htr hs hLb hw hn1 hn2 (z1 := z1) (p1 := nX (σ)) (p2 := nX (σ4)) (p3 := nX (σ8)) ihb1 ihe1
    have J1419 := w_L_J1419 X hL htr hs hLb hw hn1 hn2 (z1 := z1) (p1 := nX (σ)) (p2 := nX (σ4)) (p3 := nX (σ8)) ihb1 ihe1
    have J1394 := w_L_J1394 X hL htr hs hLb hw hn1 hn2 (z1 := z1) (p1 := nX (σ)) (p2 := nX (σ4)) (p3 := nX (σ8)) ihb1 ihe1
    have J1357 := w_L_J1357 X hL htr hs hLb hw hn1 hn2 (z1 := z1) (p1 := nX (σ)) (p2 := nX (σ4)) (p3 := nX (σ8)) ihb1 ihe1
    have J1296 := w_L_J1296 X hL htr hs hLb hw hn1 hn2 (z1 := z1) (p1 := nX (σ)) (p2 := nX (σ4)) (p3 := nX (σ8)) ihb1 ihe1
    have J1259 := w_L_J1259 X hL htr hs hLb hw hn1 hn2 (z1 := z1) (p1 := nX (σ)) (p2 := nX (σ4)) (p3 := nX (σ8)) ihb1 ihe1
    have J1222 := w_L_J1222 X hL htr hs hLb hw hn1 hn2 (z1 := z1) (p1 := nX (σ)) (p2 := nX (σ4)) (p3 := nX (σ8)) ihb1 ihe1
    have J1161 := w_L_J1161 X hL htr hs hLb hw hn1 hn2 (z1 := z1) (p1 := nX (σ)) (p2 := nX (σ4)) (p3 := nX (σ8)) ihb1 ihe1
    have J1136 := w_L_J1136 X hL htr hs hLb hw hn1 hn2 (z1 := z1) (p1 := nX (σ)) (p2 := nX (σ4)) (p3 := nX (σ8)) ihb1 ihe1
    have J1111 := w_L_J1111 X hL htr hs hLb hw hn1 hn2 (z1 := z1) (p1 := nX (σ)) (p2 := nX (σ4)) (p3 := nX (σ8)) ihb1 ihe1
    have J1086 := w_L_J1086 X hL htr hs hLb hw hn1 hn2 (z1 := z1) (p1 := nX (σ)) (p2 := nX (σ4)) (p3 := nX (σ8)) ihb1 ihe1
    have J1049 := w_L_J1049 X hL htr hs hLb hw hn1 hn2 (z1 := z1) (p1 := nX (σ)) (p2 := nX (σ4)) (p3 := nX (σ8)) ihb1 ihe1
    have J1024 := w_L_J1024 X hL htr hs hLb hw hn1 hn2 (z1 := z1) (p1 := nX (σ)) (p2 := nX (σ4)) (p3 := nX (σ8)) ihb1 ihe1
    have J987 := w_L_J987 X hL htr hs hLb hw hn1 hn2 (z1 := z1) (p1 := nX (σ)) (p2 := nX (σ4)) (p3 := nX (σ8)) ihb1 ihe1
    have J886 := w_L_J886 X hL htr hs hLb hw hn1 hn2 (z1 := z1) (p1 := nX (σ)) (p2 := nX (σ4)) (p3 := nX (σ8)) ihb1 ihe1
    have J799 := w_L_J799 X hL htr hs hLb hw hn1 hn2 (z1 := z1) (p1 := nX (σ)) (p2 := nX (σ4)) (p3 := nX (σ8)) ihb1 ihe1
    have J698 := w_L_J698 X hL htr hs hLb hw hn1 hn2 (z1 := z1) (p1 := nX (σ)) (p2 := nX (σ4)) (p3 := nX (σ8)) ihb1 ihe1
    have J661 := w_L_J661 X hL htr hs hLb hw hn1 hn2 (z1 := z1) (p1 := nX (σ)) (p2 := nX (σ4)) (p3 := nX (σ8)) ihb1 ihe1
    have J612 := w_L_J612 X hL htr hs hLb hw hn1 hn2 (z1 := z1) (p1 := nX (σ)) (p2 := nX (σ4)) (p3 := nX (σ8)) ihb1 ihe1
    have J525 := w_L_J525 X hL htr hs hLb hw hn1 hn2 (z1 := z1) (p1 := nX (σ)) (p2 := nX (σ4)) (p3 := nX (σ8)) ihb1 ihe1
    have J476 := w_L_J476 X hL htr hs hLb hw hn1 hn2 (z1 := z1) (p1 := nX (σ)) (p2 := nX (σ4)) (p3 := nX (σ8)) ihb1 ihe1
    have J384 := w_L_J384 X hL htr hs hLb hw hn1 hn2 (z1 := z1) (p1 := nX (σ)) (p2 := nX (σ4)) (p3 := nX (σ8)) ihb1 ihe1
    have J359 := w_L_J359 X hL htr hs hLb hw hn1 hn2 (z1 := z1) (p1 := nX (σ)) (p2 := nX (σ4)) (p3 := nX (σ8)) ihb1 ihe1
    have J334 := w_L_J334 X hL htr hs hLb hw hn1 hn2 (z1 := z1) (p1 := nX (σ)) (p2 := nX (σ4)) (p3 := nX (σ8)) ihb1 ihe1
    have J309 := w_L_J309 X hL htr hs hLb hw hn1 hn2 (z1 := z1) (p1 := nX (σ)) (p2 := nX (σ4)) (p3 := nX (σ8)) ihb1 ihe1
    have J236 := w_L_J236 X hL htr hs hLb hw hn1 hn2 (z1 := z1) (p1 := nX (σ)) (p2 := nX (σ4)) (p3 := nX (σ8)) ihb1 ihe1
    refine r_iload X 4 dL_law_23 rfl ?_
    refine r_aload_n X 0 dL_law_25 rfl rfl ?_
    refine r_slen X hs dL_law_26 ?_
    refine r_bipush X dL_law_27 (by decide) ?_
    refine r_isub X dL_law_29 ?_
    refine r_icmp_gt (tgt := 2574) X dL_law_30 (by decide) h (fun c389 h => ?_) (fun c389 h => ?_)
    · have h := ex_some h ihe1
      refine V.widen (k' := 5616) (n' := 3083769) (by show _ ≤ _; omega) (by show _ ≤ _; omega) ?_
      refine r_iconst X dL_law_2574 ?_
      cases h
      exact hend (Nat.le_of_ble_eq_true rfl) (Nat.le_of_ble_eq_true rfl) dL_law_2575
    · refine r_aload_n X 0 dL_law_33 rfl rfl ?_
      refine r_iload X 4 dL_law_34 rfl ?_
      refine r_sld X hs hLb dL_law_36 h (fun h => ?_)
      refine r_bipush X dL_law_37 (by decide) ?_
      refine r_iand X dL_law_39 ?_
      obtain ⟨hrc391, -, hA, h⟩ := cEq_some h
      by_cases c391 : ((bAnd ((xs (v4_1).toNat)) (63))) = 0
      · have h := hA c391
        refine w_L_sw0 X hrc391 c391 ?_
        exact V.sub [0, 1, 2, 3, 4] rfl (J236 (v4_1) (σ_1) h)
      have h := h c391
      obtain ⟨hrc392, -, hA, h⟩ := cEq_some h
      by_cases c392 : ((bAnd ((xs (v4_1).toNat)) (63))) = 1
      · have h := hA c392
        refine w_L_sw1 X hrc392 c392 ?_
        exact V.sub [0, 1, 2, 3, 4] rfl (J309 (v4_1) (σ_1) h)
      have h := h c392
      obtain ⟨hrc393, -, hA, h⟩ := cEq_some h
      by_cases c393 : ((bAnd ((xs (v4_1).toNat)) (63))) = 2
      · have h := hA c393
        refine w_L_sw2 X hrc393 c393 ?_
        exact V.sub [0, 1, 2, 3, 4] rfl (J334 (v4_1) (σ_1) h)
      have h := h c393
      obtain ⟨hrc394, -, hA, h⟩ := cEq_some h
      by_cases c394 : ((bAnd ((xs (v4_1).toNat)) (63))) = 3
      · have h := hA c394
        refine w_L_sw3 X hrc394 c394 ?_
        exact V.sub [0, 1, 2, 3, 4] rfl (J359 (v4_1) (σ_1) h)
      have h := h c394
      obtain ⟨hrc395, -, hA, h⟩ := cEq_some h
      by_cases c395 : ((bAnd ((xs (v4_1).toNat)) (63))) = 4
      · have h := hA c395
        refine w_L_sw4 X hrc395 c395 ?_
        exact V.sub [0, 1, 2, 3, 4] rfl (J384 (v4_1) (σ_1) h)
      have h := h c395
      obtain ⟨hrc396, -, hA, h⟩ := cEq_some h
      by_cases c396 : ((bAnd ((xs (v4_1).toNat)) (63))) = 5
      · have h := hA c396
        refine w_L_sw5 X hrc396 c396 ?_
        exact V.sub [0, 1, 2, 3, 4] rfl (J476 (v4_1) (σ_1) h)
      have h := h c396
      obtain ⟨hrc397, -, hA, h⟩ := cEq_some h
      by_cases c397 : ((bAnd ((xs (v4_1).toNat)) (63))) = 6
      · have h := hA c397
        refine w_L_sw6 X hrc397 c397 ?_
        exact V.sub [0, 1, 2, 3, 4] rfl (J525 (v4_1) (σ_1) h)
      have h := h c397
      obtain ⟨hrc398, -, hA, h⟩ := cEq_some h
      by_cases c398 : ((bAnd ((xs (v4_1).toNat)) (63))) = 7
      · have h := hA c398
        refine w_L_sw7 X hrc398 c398 ?_
        exact V.sub [0, 1, 2, 3, 4] rfl (J612 (v4_1) (σ_1) h)
      have h := h c398
      obtain ⟨hrc399, -, hA, h⟩ := cEq_some h
      by_cases c399 : ((bAnd ((xs (v4_1).toNat)) (63))) = 8
      · have h := hA c399
        refine w_L_sw8 X hrc399 c399 ?_
        exact V.sub [0, 1, 2, 3, 4] rfl (J661 (v4_1) (σ_1) h)
      have h := h c399
      obtain ⟨hrc400, -, hA, h⟩ := cEq_some h
      by_cases c400 : ((bAnd ((xs (v4_1).toNat)) (63))) = 9
      · have h := hA c400
        refine w_L_sw9 X hrc400 c400 ?_
        exact V.sub [0, 1, 2, 3, 4] rfl (J698 (v4_1) (σ_1) h)
      have h := h c400
      obtain ⟨hrc401, -, hA, h⟩ := cEq_some h
      by_cases c401 : ((bAnd ((xs (v4_1).toNat)) (63))) = 10
      · have h := hA c401
        refine w_L_sw10 X hrc401 c401 ?_
        exact V.sub [0, 1, 2, 3, 4] rfl (J799 (v4_1) (σ_1) h)
      have h := h c401
      obtain ⟨hrc402, -, hA, h⟩ := cEq_some h
      by_cases c402 : ((bAnd ((xs (v4_1).toNat)) (63))) = 11
      · have h := hA c402
        refine w_L_sw11 X hrc402 c402 ?_
        exact V.sub [0, 1, 2, 3, 4] rfl (J886 (v4_1) (σ_1) h)
      have h := h c402
      obtain ⟨hrc403, -, hA, h⟩ := cEq_some h
      by_cases c403 : ((bAnd ((xs (v4_1).toNat)) (63))) = 12
      · have h := hA c403
        refine w_L_sw12 X hrc403 c403 ?_
        exact V.sub [0, 1, 2, 3, 4] rfl (J987 (v4_1) (σ_1) h)
      have h := h c403
      obtain ⟨hrc404, -, hA, h⟩ := cEq_some h
      by_cases c404 : ((bAnd ((xs (v4_1).toNat)) (63))) = 13
      · have h := hA c404
        refine w_L_sw13 X hrc404 c404 ?_
        exact V.sub [0, 1, 2, 3, 4] rfl (J1024 (v4_1) (σ_1) h)
      have h := h c404
      obtain ⟨hrc405, -, hA, h⟩ := cEq_some h
      by_cases c405 : ((bAnd ((xs (v4_1).toNat)) (63))) = 14
      · have h := hA c405
        refine w_L_sw14 X hrc405 c405 ?_
        exact V.sub [0, 1, 2, 3, 4] rfl (J1049 (v4_1) (σ_1) h)
      have h := h c405
      obtain ⟨hrc406, -, hA, h⟩ := cEq_some h
      by_cases c406 : ((bAnd ((xs (v4_1).toNat)) (63))) = 15
      · have h := hA c406
        refine w_L_sw15 X hrc406 c406 ?_
        exact V.sub [0, 1, 2, 3, 4] rfl (J1086 (v4_1) (σ_1) h)
      have h := h c406
      obtain ⟨hrc407, -, hA, h⟩ := cEq_some h
      by_cases c407 : ((bAnd ((xs (v4_1).toNat)) (63))) = 16
      · have h := hA c407
        refine w_L_sw16 X hrc407 c407 ?_
        exact V.sub [0, 1, 2, 3, 4] rfl (J1111 (v4_1) (σ_1) h)
      have h := h c407
      obtain ⟨hrc408, -, hA, h⟩ := cEq_some h
      by_cases c408 : ((bAnd ((xs (v4_1).toNat)) (63))) = 17
      · have h := hA c408
        refine w_L_sw17 X hrc408 c408 ?_
        exact V.sub [0, 1, 2, 3, 4] rfl (J1136 (v4_1) (σ_1) h)
      have h := h c408
      obtain ⟨hrc409, -, hA, h⟩ := cEq_some h
      by_cases c409 : ((bAnd ((xs (v4_1).toNat)) (63))) = 18
      · have h := hA c409
        refine w_L_sw18 X hrc409 c409 ?_
        exact V.sub [0, 1, 2, 3, 4] rfl (J1161 (v4_1) (σ_1) h)
      have h := h c409
      obtain ⟨hrc410, -, hA, h⟩ := cEq_some h
      by_cases c410 : ((bAnd ((xs (v4_1).toNat)) (63))) = 19
      · have h := hA c410
        refine w_L_sw19 X hrc410 c410 ?_
        exact V.sub [0, 1, 2, 3, 4] rfl (J1222 (v4_1) (σ_1) h)
      have h := h c410
      obtain ⟨hrc411, -, hA, h⟩ := cEq_some h
      by_cases c411 : ((bAnd ((xs (v4_1).toNat)) (63))) = 20
      · have h := hA c411
        refine w_L_sw20 X hrc411 c411 ?_
        exact V.sub [0, 1, 2, 3, 4] rfl (J1259 (v4_1) (σ_1) h)
      have h := h c411
      obtain ⟨hrc412, -, hA, h⟩ := cEq_some h
      by_cases c412 : ((bAnd ((xs (v4_1).toNat)) (63))) = 21
      · have h := hA c412
        refine w_L_sw21 X hrc412 c412 ?_
        exact V.sub [0, 1, 2, 3, 4] rfl (J1296 (v4_1) (σ_1) h)
      have h := h c412
      obtain ⟨hrc413, -, hA, h⟩ := cEq_some h
      by_cases c413 : ((bAnd ((xs (v4_1).toNat)) (63))) = 22
      · have h := hA c413
        refine w_L_sw22 X hrc413 c413 ?_
        exact V.sub [0, 1, 2, 3, 4] rfl (J1357 (v4_1) (σ_1) h)
      have h := h c413
      obtain ⟨hrc414, -, hA, h⟩ := cEq_some h
      by_cases c414 : ((bAnd ((xs (v4_1).toNat)) (63))) = 23
      · have h := hA c414
        refine w_L_sw23 X hrc414 c414 ?_
        exact V.sub [0, 1, 2, 3, 4] rfl (J1394 (v4_1) (σ_1) h)
      have h := h c414
      obtain ⟨hrc415, -, hA, h⟩ := cEq_some h
      by_cases c415 : ((bAnd ((xs (v4_1).toNat)) (63))) = 24
      · have h := hA c415
        refine w_L_sw24 X hrc415 c415 ?_
        exact V.sub [0, 1, 2, 3, 4] rfl (J1419 (v4_1) (σ_1) h)
      have h := h c415
      obtain ⟨hrc416, -, hA, h⟩ := cEq_some h
      by_cases c416 : ((bAnd ((xs (v4_1).toNat)) (63))) = 25
      · have h := hA c416
        refine w_L_sw25 X hrc416 c416 ?_
        exact V.sub [0, 1, 2, 3, 4] rfl (J1492 (v4_1) (σ_1) h)
      have h := h c416
      obtain ⟨hrc417, -, hA, h⟩ := cEq_some h
      by_cases c417 : ((bAnd ((xs (v4_1).toNat)) (63))) = 26
      · have h := hA c417
        refine w_L_sw26 X hrc417 c417 ?_
        exact V.sub [0, 1, 2, 3, 4] rfl (J1565 (v4_1) (σ_1) h)
      have h := h c417
      obtain ⟨hrc418, -, hA, h⟩ := cEq_some h
      by_cases c418 : ((bAnd ((xs (v4_1).toNat)) (63))) = 27
      · have h := hA c418
        refine w_L_sw27 X hrc418 c418 ?_
        exact V.sub [0, 1, 2, 3, 4] rfl (J1614 (v4_1) (σ_1) h)
      have h := h c418
      obtain ⟨hrc419, -, hA, h⟩ := cEq_some h
      by_cases c419 : ((bAnd ((xs (v4_1).toNat)) (63))) = 28
      · have h := hA c419
        refine w_L_sw28 X hrc419 c419 ?_
        exact V.sub [0, 1, 2, 3, 4] rfl (J1675 (v4_1) (σ_1) h)
      have h := h c419
      obtain ⟨hrc420, -, hA, h⟩ := cEq_some h
      by_cases c420 : ((bAnd ((xs (v4_1).toNat)) (63))) = 29
      · have h := hA c420
        refine w_L_sw29 X hrc420 c420 ?_
        exact V.sub [0, 1, 2, 3, 4] rfl (J1724 (v4_1) (σ_1) h)
      have h := h c420
      obtain ⟨hrc421, -, hA, h⟩ := cEq_some h
      by_cases c421 : ((bAnd ((xs (v4_1).toNat)) (63))) = 30
      · have h := hA c421
        refine w_L_sw30 X hrc421 c421 ?_
        exact V.sub [0, 1, 2, 3, 4] rfl (J1785 (v4_1) (σ_1) h)
      have h := h c421
      obtain ⟨hrc422, -, hA, h⟩ := cEq_some h
      by_cases c422 : ((bAnd ((xs (v4_1).toNat)) (63))) = 31
      · have h := hA c422
        refine w_L_sw31 X hrc422 c422 ?_
        exact V.sub [0, 1, 2, 3, 4] rfl (J1846 (v4_1) (σ_1) h)
      have h := h c422
      obtain ⟨hrc423, -, hA, h⟩ := cEq_some h
      by_cases c423 : ((bAnd ((xs (v4_1).toNat)) (63))) = 32
      · have h := hA c423
        refine w_L_sw32 X hrc423 c423 ?_
        exact V.sub [0, 1, 2, 3, 4] rfl (J1919 (v4_1) (σ_1) h)
      have h := h c423
      obtain ⟨hrc424, -, hA, h⟩ := cEq_some h
      by_cases c424 : ((bAnd ((xs (v4_1).toNat)) (63))) = 33
      · have h := hA c424
        refine w_L_sw33 X hrc424 c424 ?_
        exact V.sub [0, 1, 2, 3, 4] rfl (J1980 (v4_1) (σ_1) h)
      have h := h c424
      obtain ⟨hrc425, -, hA, h⟩ := cEq_some h
      by_cases c425 : ((bAnd ((xs (v4_1).toNat)) (63))) = 34
      · have h := hA c425
        refine w_L_sw34 X hrc425 c425 ?_
        exact V.sub [0, 1, 2, 3, 4] rfl (J2005 (v4_1) (σ_1) h)
      have h := h c425
      obtain ⟨hrc426, -, hA, h⟩ := cEq_some h
      by_cases c426 : ((bAnd ((xs (v4_1).toNat)) (63))) = 35
      · have h := hA c426
        refine w_L_sw35 X hrc426 c426 ?_
        exact V.sub [0, 1, 2, 3, 4] rfl (J2018 (v4_1) (σ_1) h)
      have h := h c426
      obtain ⟨hrc427, -, hA, h⟩ := cEq_some h
      by_cases c427 : ((bAnd ((xs (v4_1).toNat)) (63))) = 36
      · have h := hA c427
        refine w_L_sw36 X hrc427 c427 ?_
        exact V.sub [0, 1, 2, 3, 4] rfl (J2031 (v4_1) (σ_1) h)
      have h := h c427
      obtain ⟨hrc428, -, hA, h⟩ := cEq_some h
      by_cases c428 : ((bAnd ((xs (v4_1).toNat)) (63))) = 37
      · have h := hA c428
        refine w_L_sw37 X hrc428 c428 ?_
        exact V.sub [0, 1, 2, 3, 4] rfl (J2080 (v4_1) (σ_1) h)
      have h := h c428
      obtain ⟨hrc429, -, hA, h⟩ := cEq_some h
      by_cases c429 : ((bAnd ((xs (v4_1).toNat)) (63))) = 38
      · have h := hA c429
        refine w_L_sw38 X hrc429 c429 ?_
        exact V.sub [0, 1, 2, 3, 4] rfl (J2187 (v4_1) (σ_1) h)
      have h := h c429
      obtain ⟨hrc430, -, hA, h⟩ := cEq_some h
      by_cases c430 : ((bAnd ((xs (v4_1).toNat)) (63))) = 39
      · have h := hA c430
        refine w_L_sw39 X hrc430 c430 ?_
        exact V.sub [0, 1, 2, 3, 4] rfl (J2274 (v4_1) (σ_1) h)
      have h := h c430
      obtain ⟨hrc431, -, hA, h⟩ := cEq_some h
      by_cases c431 : ((bAnd ((xs (v4_1).toNat)) (63))) = 40
      · have h := hA c431
        refine w_L_sw40 X hrc431 c431 ?_
        exact V.sub [0, 1, 2, 3, 4] rfl (J2335 (v4_1) (σ_1) h)
      have h := h c431
      obtain ⟨hrc432, -, hA, h⟩ := cEq_some h
      by_cases c432 : ((bAnd ((xs (v4_1).toNat)) (63))) = 41
      · have h := hA c432
        refine w_L_sw41 X hrc432 c432 ?_
        exact V.sub [0, 1, 2, 3, 4] rfl (J2396 (v4_1) (σ_1) h)
      have h := h c432
      obtain ⟨hrc433, -, hA, h⟩ := cEq_some h
      by_cases c433 : ((bAnd ((xs (v4_1).toNat)) (63))) = 42
      · have h := hA c433
        refine w_L_sw42 X hrc433 c433 ?_
        exact V.sub [0, 1, 2, 3, 4] rfl (J2433 (v4_1) (σ_1) h)
      have h := h c433
      obtain ⟨hrc434, -, hA, h⟩ := cEq_some h
      by_cases c434 : ((bAnd ((xs (v4_1).toNat)) (63))) = 43
      · have h := hA c434
        refine w_L_sw43 X hrc434 c434 ?_
        exact V.sub [0, 1, 2, 3, 4] rfl (J2482 (v4_1) (σ_1) h)
      have h := h c434
      obtain ⟨hrc435, -, hA, h⟩ := cEq_some h
      by_cases c435 : ((bAnd ((xs (v4_1).toNat)) (63))) = 44
      · have h := hA c435
        refine w_L_sw44 X hrc435 c435 ?_
        exact V.sub [0, 1, 2, 3, 4] rfl (J2543 (v4_1) (σ_1) h)
      have h := h c435
      refine r_tabOut (tgt := 2568) X dL_law_40 hrc391 (sw_out (fun j hj => match j, hj with | 0, _ => c391 | 1, _ => c392 | 2, _ => c393 | 3, _ => c394 | 4, _ => c395 | 5, _ => c396 | 6, _ => c397 | 7, _ => c398 | 8, _ => c399 | 9, _ => c400 | 10, _ => c401 | 11, _ => c402 | 12, _ => c403 | 13, _ => c404 | 14, _ => c405 | 15, _ => c406 | 16, _ => c407 | 17, _ => c408 | 18, _ => c409 | 19, _ => c410 | 20, _ => c411 | 21, _ => c412 | 22, _ => c413 | 23, _ => c414 | 24, _ => c415 | 25, _ => c416 | 26, _ => c417 | 27, _ => c418 | 28, _ => c419 | 29, _ => c420 | 30, _ => c421 | 31, _ => c422 | 32, _ => c423 | 33, _ => c424 | 34, _ => c425 | 35, _ => c426 | 36, _ => c427 | 37, _ => c428 | 38, _ => c429 | 39, _ => c430 | 40, _ => c431 | 41, _ => c432 | 42, _ => c433 | 43, _ => c434 | 44, _ => c435 | n + 45, hj => absurd hj (Nat.not_lt.mpr (Nat.le_add_left 45 n)))) (by decide) ?_
      clear c391 hrc391 c392 hrc392 c393 hrc393 c394 hrc394 c395 hrc395 c396 hrc396 c397 hrc397 c398 hrc398 c399 hrc399 c400 hrc400 c401 hrc401 c402 hrc402 c403 hrc403 c404 hrc404 c405 hrc405 c406 hrc406 c407 hrc407 c408 hrc408 c409 hrc409 c410 hrc410 c411 hrc411 c412 hrc412 c413 hrc413 c414 hrc414 c415 hrc415 c416 hrc416 c417 hrc417 c418 hrc418 c419 hrc419 c420 hrc420 c421 hrc421 c422 hrc422 c423 hrc423 c424 hrc424 c425 hrc425 c426 hrc426 c427 hrc427 c428 hrc428 c429 hrc429 c430 hrc430 c431 hrc431 c432 hrc432 c433 hrc433 c434 hrc434 c435 hrc435
      refine r_iinc X 4 dL_law_2568 rfl (hL 4 (by decide)) (lv' := [(4, iv ((v4_1 + 8))), (0, .ref (b)), (1, .ref (nX (σ))), (2, .ref (nX (σ4))), (3, .ref (nX (σ8)))]) rfl ?_
      refine r_goto (tgt := 23) X dL_law_2571 (by decide) ?_
      exact V.widen (by show _ ≤ _; omega) (by show _ ≤ _; omega) <| V.sub [1, 2, 3, 4, 0] rfl (ihb1 _ (Option.some.inj h).symm)
  exact V.sub [4, 3, 2, 1, 0] rfl (L23 (64, 0, σ10) h)

