/-! walks (printed by gen.py) -/
set_option maxRecDepth 100000
theorem hy_X6_readCalendar : yX6_readCalendar.cls ≠ "java/lang/invoke/MethodHandle" ∧ yX6_readCalendar.cls ≠ "java/lang/invoke/VarHandle" ∧ (parseMethodDescriptor yX6_readCalendar.desc).map (fun d => d.parameters.length) = some 1 := by decide +kernel
set_option maxHeartbeats 4000000 in
theorem w_X6_readCalendar (l : Launch) (D : DD) (sz : Nat) {σ : St} {a0 : Nat} {x1 : Int} {w : Int × St} (h : f_X6_readCalendar σ a0 x1 = some w) : Mt l yX6_readCalendar cX6_readCalendar 3 (some FieldType.int) ({ frames := 6, cells := 0, slots := 0, locals := 89 } : Room) D sz σ [.ref a0, iv (x1)] (.returned (some (iv w.1))) (w.2) 0 0 := by
  refine Mt.of (by decide +kernel) (Nat.le_of_ble_eq_true rfl) ?_
  intro Γ X hr hnl hini hnoh
  have X : Cx Γ cX6_readCalendar "DayBoyModel" _ := X
  have hL : ∀ i, i < 3 → i < nLc Γ := fun i q => by rw [hnl]; exact q
  show V Γ σ 0 0 0 [(0, .ref (a0)), (1, iv (x1))] []
  unfold f_X6_readCalendar at h
  obtain ⟨ho0, h⟩ := cO_some h
  have J144 : ∀ (σ_j144 : St), f_X6_readCalendar_j144 (a0) (x1) σ_j144 = some w → V Γ σ_j144 0 0 144 [(0, .ref (a0)), (1, iv (x1))] [] := by
    intro σ_j144 h
    unfold f_X6_readCalendar_j144 at h
    refine r_aload_n X 0 dX6_readCalendar_144 rfl rfl ?_
    obtain ⟨ho1, h⟩ := cO_some h
    refine r_getA (kf := 10) X ho1.1 rfl (by decide) (by decide) (Or.inl q1251) dX6_readCalendar_145 ?_
    refine r_iconst X dX6_readCalendar_148 ?_
    refine r_iload_n X 1 dX6_readCalendar_149 rfl rfl ?_
    refine r_imul X dX6_readCalendar_150 ?_
    refine r_aload_n X 0 dX6_readCalendar_151 rfl rfl ?_
    refine r_getA (kf := 6) X ho1.1 rfl (by decide) (by decide) (Or.inl q1247) dX6_readCalendar_152 ?_
    refine r_iload_n X 1 dX6_readCalendar_155 rfl rfl ?_
    refine r_iald X ho1.1 (ho1.2 6 (by decide)) rfl rfl rfl (by decide) dX6_readCalendar_156 h (fun h => ?_)
    refine r_iadd X dX6_readCalendar_157 ?_
    refine r_iconst X dX6_readCalendar_158 ?_
    refine r_isub X dX6_readCalendar_159 ?_
    refine r_sipush X dX6_readCalendar_160 (by decide) ?_
    refine r_bipush X dX6_readCalendar_163 (by decide) ?_
    refine r_bipush X dX6_readCalendar_165 (by decide) ?_
    obtain ⟨r3, h2, h⟩ := bd_some h
    refine r_cS (Wd := 2) X (fun l D sz => w_X6_code l D sz h2) q1529 q1528 q109 q1530 hy_X6_code rfl dX6_readCalendar_167 rfl rfl (by simp only [List.map_cons, List.map_nil, cat_rf, cat_iv, cat_jv, cat_ref, List.sum_cons, List.sum_nil]; decide) ⟨Nat.le_of_ble_eq_true rfl, Nat.le_of_ble_eq_true rfl⟩ ⟨Nat.le_of_ble_eq_true rfl, Nat.le_of_ble_eq_true rfl⟩ ?_
    refine r_iast X ho1.1 (ho1.2 10 (by decide)) rfl rfl rfl (by decide) dX6_readCalendar_170 h (fun h => ?_)
    refine r_let h (fun σ4 eσ4 h => ?_)
    refine r_aload_n X 0 dX6_readCalendar_171 rfl rfl ?_
    have hk5 : oc σ4 (a0) 5 := by rw [eσ4]; exact ho1
    refine r_getI (kf := 4) X hk5.1 rfl (by decide) rfl (Or.inl q1245) dX6_readCalendar_172 ?_
    cases h
    exact r_iret X hr dX6_readCalendar_175
  have J124 : ∀ (σ_j124 : St), f_X6_readCalendar_j124 (a0) (x1) σ_j124 = some w → V Γ σ_j124 0 0 124 [(0, .ref (a0)), (1, iv (x1))] [] := by
    intro σ_j124 h
    unfold f_X6_readCalendar_j124 at h
    refine r_aload_n X 0 dX6_readCalendar_124 rfl rfl ?_
    obtain ⟨ho6, h⟩ := cO_some h
    refine r_getI (kf := 4) X ho6.1 rfl (by decide) rfl (Or.inl q1245) dX6_readCalendar_125 ?_
    refine r_iconst X dX6_readCalendar_128 ?_
    refine r_icmp_ne (tgt := 144) X dX6_readCalendar_129 (by decide) h (fun c7 h => ?_) (fun c7 h => ?_)
    · refine r_aload_n X 0 dX6_readCalendar_132 rfl rfl ?_
      obtain ⟨r9, σ10, h8, h⟩ := bd2_some h
      refine r_cV (Wd := 0) X (fun l D sz => w_X6_look l D sz h8) ho6.1 rfl q1488 qs47 q1486 q109 q1489 hy_X6_look rfl dX6_readCalendar_133 rfl rfl (Nat.le_of_ble_eq_true rfl) ⟨Nat.le_of_ble_eq_true rfl, Nat.le_of_ble_eq_true rfl⟩ ⟨Nat.le_of_ble_eq_true rfl, Nat.le_of_ble_eq_true rfl⟩ ?_
      refine r_iconst X dX6_readCalendar_136 ?_
      refine r_icmp_eq (tgt := 144) X dX6_readCalendar_137 (by decide) h (fun c11 h => ?_) (fun c11 h => ?_)
      · exact V.sub [0, 1] rfl (J144 (σ10) h)
      · refine r_aload_n X 0 dX6_readCalendar_140 rfl rfl ?_
        obtain ⟨ho13, h⟩ := cO_some h
        obtain ⟨σ14, h12, h⟩ := bd_some h
        refine r_cV (Wd := 0) X (fun l D sz => w_X6_bad l D sz h12) ho13.1 rfl q1499 qs49 q1497 q109 q1500 hy_X6_bad rfl dX6_readCalendar_141 rfl rfl (Nat.le_of_ble_eq_true rfl) ⟨Nat.le_of_ble_eq_true rfl, Nat.le_of_ble_eq_true rfl⟩ ⟨Nat.le_of_ble_eq_true rfl, Nat.le_of_ble_eq_true rfl⟩ ?_
        exact V.sub [0, 1] rfl (J144 (σ14) h)
    · exact V.sub [0, 1] rfl (J144 (σ_j124) h)
  refine r_aload_n X 0 dX6_readCalendar_0 rfl rfl ?_
  refine r_iconst X dX6_readCalendar_1 ?_
  refine r_putI (kf := 3) X ho0.1 rfl (by decide) rfl rfl (Or.inl q1244) dX6_readCalendar_2 rfl ?_
  refine r_let h (fun σ15 eσ15 h => ?_)
  refine r_aload_n X 0 dX6_readCalendar_5 rfl rfl ?_
  refine r_iconst X dX6_readCalendar_6 ?_
  have hk16 : oc σ15 (a0) 5 := by rw [eσ15]; exact ho0
  refine r_putI (kf := 4) X hk16.1 rfl (by decide) rfl rfl (Or.inl q1245) dX6_readCalendar_7 rfl ?_
  refine r_let h (fun σ17 eσ17 h => ?_)
  refine r_iconst X dX6_readCalendar_10 ?_
  refine r_iload_n X 1 dX6_readCalendar_11 rfl rfl ?_
  refine r_imul X dX6_readCalendar_12 ?_
  refine r_istore_n X dX6_readCalendar_13 rfl (hL 2 (by decide)) (lv' := [(2, iv ((4 * x1))), (0, .ref (a0)), (1, iv (x1))]) rfl ?_
  refine r_aload_n X 1 dX6_readCalendar_14 rfl rfl ?_
  have hk18 : oc σ17 (a0) 5 := by rw [eσ17]; exact hk16
  refine r_getA (kf := 5) X hk18.1 rfl (by decide) (by decide) (Or.inl q1246) dX6_readCalendar_15 ?_
  refine r_iload_n X 2 dX6_readCalendar_18 rfl rfl ?_
  refine r_aload_n X 1 dX6_readCalendar_19 rfl rfl ?_
  refine r_iconst X dX6_readCalendar_20 ?_
  refine r_bipush X dX6_readCalendar_21 (by decide) ?_
  obtain ⟨r20, σ21, h19, h⟩ := bd2_some h
  refine r_cV (Wd := 2) X (fun l D sz => w_X6_plain l D sz h19) hk18.1 rfl q1480 qs45 q1478 q109 q1481 hy_X6_plain rfl dX6_readCalendar_23 rfl rfl (by simp only [List.map_cons, List.map_nil, cat_rf, cat_iv, cat_jv, cat_ref, List.sum_cons, List.sum_nil]; decide) ⟨Nat.le_of_ble_eq_true rfl, Nat.le_of_ble_eq_true rfl⟩ ⟨Nat.le_of_ble_eq_true rfl, Nat.le_of_ble_eq_true rfl⟩ ?_
  obtain ⟨ho22, h⟩ := cO_some h
  obtain ⟨hv23, h⟩ := ck_some h
  rw [← hv23]
  refine r_iast X ho22.1 (ho22.2 5 (by decide)) rfl rfl rfl (by decide) dX6_readCalendar_26 h (fun h => ?_)
  refine r_let h (fun σ24 eσ24 h => ?_)
  refine r_aload_n X 1 dX6_readCalendar_27 rfl rfl ?_
  refine r_bipush X dX6_readCalendar_28 (by decide) ?_
  have hk26 : oc σ24 (a0) 5 := by rw [eσ24]; exact ho22
  obtain ⟨σ27, h25, h⟩ := bd_some h
  refine r_cV (Wd := 0) X (fun l D sz => w_X6_sign l D sz h25) hk26.1 rfl q1514 qs52 q1512 q109 q1515 hy_X6_sign rfl dX6_readCalendar_30 rfl rfl (Nat.le_of_ble_eq_true rfl) ⟨Nat.le_of_ble_eq_true rfl, Nat.le_of_ble_eq_true rfl⟩ ⟨Nat.le_of_ble_eq_true rfl, Nat.le_of_ble_eq_true rfl⟩ ?_
  refine r_aload_n X 1 dX6_readCalendar_33 rfl rfl ?_
  refine r_iload_n X 0 dX6_readCalendar_34 rfl rfl ?_
  obtain ⟨ho29, h⟩ := cO_some h
  obtain ⟨σ30, h28, h⟩ := bd_some h
  refine r_cV (Wd := 0) X (fun l D sz => w_X6_readLeaps l D sz h28) ho29.1 rfl q1518 qs53 q1516 q109 q1519 hy_X6_readLeaps rfl dX6_readCalendar_35 rfl rfl (Nat.le_of_ble_eq_true rfl) ⟨Nat.le_of_ble_eq_true rfl, Nat.le_of_ble_eq_true rfl⟩ ⟨Nat.le_of_ble_eq_true rfl, Nat.le_of_ble_eq_true rfl⟩ ?_
  refine r_aload_n X 1 dX6_readCalendar_38 rfl rfl ?_
  obtain ⟨ho31, h⟩ := cO_some h
  refine r_getA (kf := 6) X ho31.1 rfl (by decide) (by decide) (Or.inl q1247) dX6_readCalendar_39 ?_
  refine r_iload_n X 2 dX6_readCalendar_42 rfl rfl ?_
  refine r_iconst X dX6_readCalendar_43 ?_
  refine r_iast X ho31.1 (ho31.2 6 (by decide)) rfl rfl rfl (by decide) dX6_readCalendar_44 h (fun h => ?_)
  refine r_let h (fun σ32 eσ32 h => ?_)
  refine r_aload_n X 1 dX6_readCalendar_45 rfl rfl ?_
  have hk33 : oc σ32 (a0) 5 := by rw [eσ32]; exact ho31
  refine r_getA (kf := 11) X hk33.1 rfl (by decide) (by decide) (Or.inl q1252) dX6_readCalendar_46 ?_
  refine r_iload_n X 0 dX6_readCalendar_49 rfl rfl ?_
  refine r_iconst X dX6_readCalendar_50 ?_
  refine r_iconst X dX6_readCalendar_51 ?_
  refine r_iconst X dX6_readCalendar_52 ?_
  obtain ⟨r35, h34, h⟩ := bd_some h
  refine r_cS (Wd := 2) X (fun l D sz => w_X6_code l D sz h34) q1529 q1528 q109 q1530 hy_X6_code rfl dX6_readCalendar_53 rfl rfl (by simp only [List.map_cons, List.map_nil, cat_rf, cat_iv, cat_jv, cat_ref, List.sum_cons, List.sum_nil]; decide) ⟨Nat.le_of_ble_eq_true rfl, Nat.le_of_ble_eq_true rfl⟩ ⟨Nat.le_of_ble_eq_true rfl, Nat.le_of_ble_eq_true rfl⟩ ?_
  refine r_iast X hk33.1 (hk33.2 11 (by decide)) rfl rfl rfl (by decide) dX6_readCalendar_56 h (fun h => ?_)
  refine r_let h (fun σ36 eσ36 h => ?_)
  refine r_aload_n X 1 dX6_readCalendar_57 rfl rfl ?_
  have hk37 : oc σ36 (a0) 5 := by rw [eσ36]; exact hk33
  refine r_getA (kf := 12) X hk37.1 rfl (by decide) (by decide) (Or.inl q1253) dX6_readCalendar_58 ?_
  refine r_iload_n X 0 dX6_readCalendar_61 rfl rfl ?_
  refine r_aload_n X 1 dX6_readCalendar_62 rfl rfl ?_
  refine r_getA (kf := 5) X hk37.1 rfl (by decide) (by decide) (Or.inl q1246) dX6_readCalendar_63 ?_
  refine r_iload_n X 2 dX6_readCalendar_66 rfl rfl ?_
  refine r_iald X hk37.1 (hk37.2 5 (by decide)) rfl rfl rfl (by decide) dX6_readCalendar_67 h (fun h => ?_)
  refine r_iast X hk37.1 (hk37.2 12 (by decide)) rfl rfl rfl (by decide) dX6_readCalendar_68 h (fun h => ?_)
  refine r_let h (fun σ38 eσ38 h => ?_)
  have L69 : ∀ s : St, lp (fun s => f_X6_readCalendar_b69 (a0) (x1) s) s = some w → V Γ (s) 0 0 69 [(0, .ref (a0)), (1, iv (x1))] [] := by
    refine lp_rule (P := fun s : St => V Γ (s) 0 0 69 [(0, .ref (a0)), (1, iv (x1))] []) ?_
    intro s z1 h ihb1 ihe1
    obtain ⟨σ_1, es⟩ : ∃ q, q = s := ⟨s, rfl⟩
    subst es
    have h : f_X6_readCalendar_b69 (a0) (x1) σ_1 = some z1 := h
    unfold f_X6_readCalendar_b69 at h
    show V Γ σ_1 0 0 69 [(0, .ref (a0)), (1, iv (x1))] []
    refine r_aload_n X 0 dX6_readCalendar_69 rfl rfl ?_
    obtain ⟨ho39, h⟩ := cO_some h
    refine r_getI (kf := 4) X ho39.1 rfl (by decide) rfl (Or.inl q1245) dX6_readCalendar_70 ?_
    refine r_iconst X dX6_readCalendar_73 ?_
    refine r_icmp_ne (tgt := 124) X dX6_readCalendar_74 (by decide) h (fun c40 h => ?_) (fun c40 h => ?_)
    · refine r_aload_n X 0 dX6_readCalendar_77 rfl rfl ?_
      obtain ⟨r42, σ43, h41, h⟩ := bd2_some h
      refine r_cV (Wd := 0) X (fun l D sz => w_X6_look l D sz h41) ho39.1 rfl q1488 qs47 q1486 q109 q1489 hy_X6_look rfl dX6_readCalendar_78 rfl rfl (Nat.le_of_ble_eq_true rfl) ⟨Nat.le_of_ble_eq_true rfl, Nat.le_of_ble_eq_true rfl⟩ ⟨Nat.le_of_ble_eq_true rfl, Nat.le_of_ble_eq_true rfl⟩ ?_
      refine r_bipush X dX6_readCalendar_81 (by decide) ?_
      refine r_icmp_ne (tgt := 124) X dX6_readCalendar_83 (by decide) h (fun c44 h => ?_) (fun c44 h => ?_)
      · refine r_aload_n X 0 dX6_readCalendar_86 rfl rfl ?_
        obtain ⟨ho45, h⟩ := cO_some h
        refine r_getA (kf := 6) X ho45.1 rfl (by decide) (by decide) (Or.inl q1247) dX6_readCalendar_87 ?_
        refine r_iload_n X 1 dX6_readCalendar_90 rfl rfl ?_
        refine r_iald X ho45.1 (ho45.2 6 (by decide)) rfl rfl rfl (by decide) dX6_readCalendar_91 h (fun h => ?_)
        refine r_iconst X dX6_readCalendar_92 ?_
        refine r_icmp_ge (tgt := 124) X dX6_readCalendar_93 (by decide) h (fun c46 h => ?_) (fun c46 h => ?_)
        · refine r_aload_n X 0 dX6_readCalendar_96 rfl rfl ?_
          refine r_dup X dX6_readCalendar_97 rfl ?_
          refine r_getI (kf := 3) X ho45.1 rfl (by decide) rfl (Or.inl q1244) dX6_readCalendar_98 ?_
          refine r_iconst X dX6_readCalendar_101 ?_
          refine r_iadd X dX6_readCalendar_102 ?_
          refine r_putI (kf := 3) X ho45.1 rfl (by decide) rfl rfl (Or.inl q1244) dX6_readCalendar_103 rfl ?_
          refine r_let h (fun σ47 eσ47 h => ?_)
          refine r_aload_n X 0 dX6_readCalendar_106 rfl rfl ?_
          refine r_iload_n X 1 dX6_readCalendar_107 rfl rfl ?_
          refine r_iconst X dX6_readCalendar_108 ?_
          refine r_iload_n X 1 dX6_readCalendar_109 rfl rfl ?_
          refine r_imul X dX6_readCalendar_110 ?_
          refine r_aload_n X 0 dX6_readCalendar_111 rfl rfl ?_
          have hk48 : oc σ47 (a0) 5 := by rw [eσ47]; exact ho45
          refine r_getA (kf := 6) X hk48.1 rfl (by decide) (by decide) (Or.inl q1247) dX6_readCalendar_112 ?_
          refine r_iload_n X 1 dX6_readCalendar_115 rfl rfl ?_
          refine r_iald X hk48.1 (hk48.2 6 (by decide)) rfl rfl rfl (by decide) dX6_readCalendar_116 h (fun h => ?_)
          refine r_iadd X dX6_readCalendar_117 ?_
          obtain ⟨σ50, h49, h⟩ := bd_some h
          refine r_cV (Wd := 0) X (fun l D sz => w_X6_change l D sz h49) hk48.1 rfl q1533 qs56 q1531 q109 q1534 hy_X6_change rfl dX6_readCalendar_118 rfl rfl (Nat.le_of_ble_eq_true rfl) ⟨Nat.le_of_ble_eq_true rfl, Nat.le_of_ble_eq_true rfl⟩ ⟨Nat.le_of_ble_eq_true rfl, Nat.le_of_ble_eq_true rfl⟩ ?_
          refine r_goto (tgt := 69) X dX6_readCalendar_121 (by decide) ?_
          exact V.sub [0, 1] rfl (ihb1 _ (Option.some.inj h).symm)
        · have h := ex_some h ihe1
          exact V.sub [0, 1] rfl (J124 (σ43) h)
      · have h := ex_some h ihe1
        exact V.sub [0, 1] rfl (J124 (σ43) h)
    · have h := ex_some h ihe1
      exact V.sub [0, 1] rfl (J124 (σ_1) h)
  exact V.sub [1, 2] rfl (L69 (σ38) h)
theorem hy_X6_readStep : yX6_readStep.cls ≠ "java/lang/invoke/MethodHandle" ∧ yX6_readStep.cls ≠ "java/lang/invoke/VarHandle" ∧ (parseMethodDescriptor yX6_readStep.desc).map (fun d => d.parameters.length) = some 1 := by decide +kernel
set_option maxHeartbeats 4000000 in
theorem w_X6_readStep (l : Launch) (D : DD) (sz : Nat) {σ : St} {a0 : Nat} {x1 : Int} {w : St} (h : f_X6_readStep σ a0 x1 = some w) : Mt l yX6_readStep cX6_readStep 4 none ({ frames := 4, cells := 0, slots := 0, locals := 57 } : Room) D sz σ [.ref a0, iv (x1)] (.returned none) (w) 0 0 := by
  refine Mt.of (by decide +kernel) (Nat.le_of_ble_eq_true rfl) ?_
  intro Γ X hr hnl hini hnoh
  have X : Cx Γ cX6_readStep "DayBoyModel" _ := X
  have hL : ∀ i, i < 4 → i < nLc Γ := fun i q => by rw [hnl]; exact q
  show V Γ σ 0 0 0 [(0, .ref (a0)), (1, iv (x1))] []
  unfold f_X6_readStep at h
  obtain ⟨ho0, h⟩ := cO_some h
  have J54 : ∀ (v2_j54 : Int) (σ_j54 : St), f_X6_readStep_j54 (a0) (x1) v2_j54 σ_j54 = some w → V Γ σ_j54 0 0 54 [(0, .ref (a0)), (1, iv (x1)), (2, iv (v2_j54))] [] := by
    intro v2_j54 σ_j54 h
    unfold f_X6_readStep_j54 at h
    refine r_aload_n X 0 dX6_readStep_54 rfl rfl ?_
    obtain ⟨ho2, h⟩ := cO_some h
    obtain ⟨σ3, h1, h⟩ := bd_some h
    refine r_cV (Wd := 0) X (fun l D sz => w_X6_closeNumber l D sz h1) ho2.1 rfl q1510 qs51 q1508 q109 q1511 hy_X6_closeNumber rfl dX6_readStep_55 rfl rfl (Nat.le_of_ble_eq_true rfl) ⟨Nat.le_of_ble_eq_true rfl, Nat.le_of_ble_eq_true rfl⟩ ⟨Nat.le_of_ble_eq_true rfl, Nat.le_of_ble_eq_true rfl⟩ ?_
    refine r_aload_n X 0 dX6_readStep_58 rfl rfl ?_
    refine r_bipush X dX6_readStep_59 (by decide) ?_
    obtain ⟨ho5, h⟩ := cO_some h
    obtain ⟨σ6, h4, h⟩ := bd_some h
    refine r_cV (Wd := 0) X (fun l D sz => w_X6_sign l D sz h4) ho5.1 rfl q1514 qs52 q1512 q109 q1515 hy_X6_sign rfl dX6_readStep_61 rfl rfl (Nat.le_of_ble_eq_true rfl) ⟨Nat.le_of_ble_eq_true rfl, Nat.le_of_ble_eq_true rfl⟩ ⟨Nat.le_of_ble_eq_true rfl, Nat.le_of_ble_eq_true rfl⟩ ?_
    refine r_aload_n X 0 dX6_readStep_64 rfl rfl ?_
    obtain ⟨ho7, h⟩ := cO_some h
    refine r_getA (kf := 19) X ho7.1 rfl (by decide) (by decide) (Or.inl q1260) dX6_readStep_65 ?_
    refine r_bipush X dX6_readStep_68 (by decide) ?_
    refine r_iload_n X 1 dX6_readStep_70 rfl rfl ?_
    refine r_imul X dX6_readStep_71 ?_
    refine r_aload_n X 0 dX6_readStep_72 rfl rfl ?_
    refine r_getA (kf := 18) X ho7.1 rfl (by decide) (by decide) (Or.inl q1259) dX6_readStep_73 ?_
    refine r_iload_n X 1 dX6_readStep_76 rfl rfl ?_
    refine r_iald X ho7.1 (ho7.2 18 (by decide)) rfl rfl rfl (by decide) dX6_readStep_77 h (fun h => ?_)
    refine r_iadd X dX6_readStep_78 ?_
    refine r_iload_n X 2 dX6_readStep_79 rfl rfl ?_
    refine r_iast X ho7.1 (ho7.2 19 (by decide)) rfl rfl rfl (by decide) dX6_readStep_80 h (fun h => ?_)
    refine r_let h (fun σ8 eσ8 h => ?_)
    refine r_aload_n X 0 dX6_readStep_81 rfl rfl ?_
    have hk9 : oc σ8 (a0) 5 := by rw [eσ8]; exact ho7
    refine r_getA (kf := 20) X hk9.1 rfl (by decide) (by decide) (Or.inl q1261) dX6_readStep_82 ?_
    refine r_bipush X dX6_readStep_85 (by decide) ?_
    refine r_iload_n X 1 dX6_readStep_87 rfl rfl ?_
    refine r_imul X dX6_readStep_88 ?_
    refine r_aload_n X 0 dX6_readStep_89 rfl rfl ?_
    refine r_getA (kf := 18) X hk9.1 rfl (by decide) (by decide) (Or.inl q1259) dX6_readStep_90 ?_
    refine r_iload_n X 1 dX6_readStep_93 rfl rfl ?_
    refine r_iald X hk9.1 (hk9.2 18 (by decide)) rfl rfl rfl (by decide) dX6_readStep_94 h (fun h => ?_)
    refine r_iadd X dX6_readStep_95 ?_
    refine r_aload_n X 0 dX6_readStep_96 rfl rfl ?_
    refine r_iconst X dX6_readStep_97 ?_
    refine r_bipush X dX6_readStep_98 (by decide) ?_
    obtain ⟨r11, σ12, h10, h⟩ := bd2_some h
    refine r_cV (Wd := 2) X (fun l D sz => w_X6_plain l D sz h10) hk9.1 rfl q1480 qs45 q1478 q109 q1481 hy_X6_plain rfl dX6_readStep_100 rfl rfl (by simp only [List.map_cons, List.map_nil, cat_rf, cat_iv, cat_jv, cat_ref, List.sum_cons, List.sum_nil]; decide) ⟨Nat.le_of_ble_eq_true rfl, Nat.le_of_ble_eq_true rfl⟩ ⟨Nat.le_of_ble_eq_true rfl, Nat.le_of_ble_eq_true rfl⟩ ?_
    obtain ⟨ho13, h⟩ := cO_some h
    obtain ⟨hv14, h⟩ := ck_some h
    rw [← hv14]
    refine r_iast X ho13.1 (ho13.2 20 (by decide)) rfl rfl rfl (by decide) dX6_readStep_103 h (fun h => ?_)
    refine r_let h (fun σ15 eσ15 h => ?_)
    refine r_aload_n X 0 dX6_readStep_104 rfl rfl ?_
    have hk16 : oc σ15 (a0) 5 := by rw [eσ15]; exact ho13
    refine r_getA (kf := 18) X hk16.1 rfl (by decide) (by decide) (Or.inl q1259) dX6_readStep_105 ?_
    refine r_iload_n X 1 dX6_readStep_108 rfl rfl ?_
    refine r_dup2 X dX6_readStep_109 rfl (cat_rf _) ?_
    refine r_iald X hk16.1 (hk16.2 18 (by decide)) rfl rfl rfl (by decide) dX6_readStep_110 h (fun h => ?_)
    refine r_iconst X dX6_readStep_111 ?_
    refine r_iadd X dX6_readStep_112 ?_
    refine r_iast X hk16.1 (hk16.2 18 (by decide)) rfl rfl rfl (by decide) dX6_readStep_113 h (fun h => ?_)
    refine r_let h (fun σ17 eσ17 h => ?_)
    cases h
    exact r_vret X hr dX6_readStep_114
  refine r_aload_n X 0 dX6_readStep_0 rfl rfl ?_
  refine r_iconst X dX6_readStep_1 ?_
  refine r_sipush X dX6_readStep_2 (by decide) ?_
  obtain ⟨r19, σ20, h18, h⟩ := bd2_some h
  refine r_cV (Wd := 0) X (fun l D sz => w_X6_number l D sz h18) ho0.1 rfl q1484 qs46 q1482 q109 q1485 hy_X6_number rfl dX6_readStep_5 rfl rfl (Nat.le_of_ble_eq_true rfl) ⟨Nat.le_of_ble_eq_true rfl, Nat.le_of_ble_eq_true rfl⟩ ⟨Nat.le_of_ble_eq_true rfl, Nat.le_of_ble_eq_true rfl⟩ ?_
  refine r_istore_n X dX6_readStep_8 rfl (hL 2 (by decide)) (lv' := [(2, iv (r19)), (0, .ref (a0)), (1, iv (x1))]) rfl ?_
  refine r_iconst X dX6_readStep_9 ?_
  refine r_istore_n X dX6_readStep_10 rfl (hL 3 (by decide)) (lv' := [(3, iv (0)), (2, iv (r19)), (0, .ref (a0)), (1, iv (x1))]) rfl ?_
  have L11 : ∀ s : Int × St, lp (fun s => f_X6_readStep_b11 (a0) (x1) (r19) s.1 s.2) s = some w → V Γ (s.2) 0 0 11 [(0, .ref (a0)), (1, iv (x1)), (2, iv (r19)), (3, iv (s.1))] [] := by
    refine lp_rule (P := fun s : Int × St => V Γ (s.2) 0 0 11 [(0, .ref (a0)), (1, iv (x1)), (2, iv (r19)), (3, iv (s.1))] []) ?_
    intro s z1 h ihb1 ihe1
    obtain ⟨v3_1, σ_1⟩ := s
    have h : f_X6_readStep_b11 (a0) (x1) (r19) v3_1 σ_1 = some z1 := h
    unfold f_X6_readStep_b11 at h
    show V Γ σ_1 0 0 11 [(0, .ref (a0)), (1, iv (x1)), (2, iv (r19)), (3, iv (v3_1))] []
    refine r_iload_n X 3 dX6_readStep_11 rfl rfl ?_
    refine r_aload_n X 0 dX6_readStep_12 rfl rfl ?_
    obtain ⟨ho21, h⟩ := cO_some h
    refine r_getA (kf := 18) X ho21.1 rfl (by decide) (by decide) (Or.inl q1259) dX6_readStep_13 ?_
    refine r_iload_n X 1 dX6_readStep_16 rfl rfl ?_
    refine r_iald X ho21.1 (ho21.2 18 (by decide)) rfl rfl rfl (by decide) dX6_readStep_17 h (fun h => ?_)
    refine r_icmp_ge (tgt := 54) X dX6_readStep_18 (by decide) h (fun c22 h => ?_) (fun c22 h => ?_)
    · refine r_aload_n X 0 dX6_readStep_21 rfl rfl ?_
      refine r_getI (kf := 4) X ho21.1 rfl (by decide) rfl (Or.inl q1245) dX6_readStep_22 ?_
      refine r_iconst X dX6_readStep_25 ?_
      refine r_icmp_ne (tgt := 54) X dX6_readStep_26 (by decide) h (fun c23 h => ?_) (fun c23 h => ?_)
      · refine r_aload_n X 0 dX6_readStep_29 rfl rfl ?_
        refine r_getA (kf := 19) X ho21.1 rfl (by decide) (by decide) (Or.inl q1260) dX6_readStep_30 ?_
        refine r_bipush X dX6_readStep_33 (by decide) ?_
        refine r_iload_n X 1 dX6_readStep_35 rfl rfl ?_
        refine r_imul X dX6_readStep_36 ?_
        refine r_iload_n X 3 dX6_readStep_37 rfl rfl ?_
        refine r_iadd X dX6_readStep_38 ?_
        refine r_iald X ho21.1 (ho21.2 19 (by decide)) rfl rfl rfl (by decide) dX6_readStep_39 h (fun h => ?_)
        refine r_iload_n X 2 dX6_readStep_40 rfl rfl ?_
        refine r_icmp_ne (tgt := 48) X dX6_readStep_41 (by decide) h (fun c24 h => ?_) (fun c24 h => ?_)
        · refine r_aload_n X 0 dX6_readStep_44 rfl rfl ?_
          obtain ⟨σ26, h25, h⟩ := bd_some h
          refine r_cV (Wd := 0) X (fun l D sz => w_X6_wrongAtLast l D sz h25) ho21.1 rfl q1506 qs50 q1504 q109 q1507 hy_X6_wrongAtLast rfl dX6_readStep_45 rfl rfl (Nat.le_of_ble_eq_true rfl) ⟨Nat.le_of_ble_eq_true rfl, Nat.le_of_ble_eq_true rfl⟩ ⟨Nat.le_of_ble_eq_true rfl, Nat.le_of_ble_eq_true rfl⟩ ?_
          refine r_iinc X 3 dX6_readStep_48 rfl (hL 3 (by decide)) (lv' := [(3, iv ((v3_1 + 1))), (0, .ref (a0)), (1, iv (x1)), (2, iv (r19))]) rfl ?_
          refine r_goto (tgt := 11) X dX6_readStep_51 (by decide) ?_
          exact V.sub [1, 2, 3, 0] rfl (ihb1 _ (Option.some.inj h).symm)
        · refine r_iinc X 3 dX6_readStep_48 rfl (hL 3 (by decide)) (lv' := [(3, iv ((v3_1 + 1))), (0, .ref (a0)), (1, iv (x1)), (2, iv (r19))]) rfl ?_
          refine r_goto (tgt := 11) X dX6_readStep_51 (by decide) ?_
          exact V.sub [1, 2, 3, 0] rfl (ihb1 _ (Option.some.inj h).symm)
      · have h := ex_some h ihe1
        exact V.sub [0, 1, 2] rfl (J54 (r19) (σ_1) h)
    · have h := ex_some h ihe1
      exact V.sub [0, 1, 2] rfl (J54 (r19) (σ_1) h)
  exact V.sub [2, 3, 1, 0] rfl (L11 (0, σ20) h)
theorem hy_X6_readLike : yX6_readLike.cls ≠ "java/lang/invoke/MethodHandle" ∧ yX6_readLike.cls ≠ "java/lang/invoke/VarHandle" ∧ (parseMethodDescriptor yX6_readLike.desc).map (fun d => d.parameters.length) = some 1 := by decide +kernel
set_option maxHeartbeats 4000000 in
theorem w_X6_readLike (l : Launch) (D : DD) (sz : Nat) {σ : St} {a0 : Nat} {x1 : Int} {w : St} (h : f_X6_readLike σ a0 x1 = some w) : Mt l yX6_readLike cX6_readLike 3 none ({ frames := 4, cells := 0, slots := 0, locals := 57 } : Room) D sz σ [.ref a0, iv (x1)] (.returned none) (w) 0 0 := by
  refine Mt.of (by decide +kernel) (Nat.le_of_ble_eq_true rfl) ?_
  intro Γ X hr hnl hini hnoh
  have X : Cx Γ cX6_readLike "DayBoyModel" _ := X
  have hL : ∀ i, i < 3 → i < nLc Γ := fun i q => by rw [hnl]; exact q
  show V Γ σ 0 0 0 [(0, .ref (a0)), (1, iv (x1))] []
  unfold f_X6_readLike at h
  obtain ⟨ho0, h⟩ := cO_some h
  have J71 : ∀ (v2_j71 : Int) (σ_j71 : St), f_X6_readLike_j71 (a0) (x1) v2_j71 σ_j71 = some w → V Γ σ_j71 0 0 71 [(0, .ref (a0)), (1, iv (x1)), (2, iv (v2_j71))] [] := by
    intro v2_j71 σ_j71 h
    unfold f_X6_readLike_j71 at h
    refine r_aload_n X 0 dX6_readLike_71 rfl rfl ?_
    obtain ⟨ho2, h⟩ := cO_some h
    obtain ⟨σ3, h1, h⟩ := bd_some h
    refine r_cV (Wd := 0) X (fun l D sz => w_X6_closeNumber l D sz h1) ho2.1 rfl q1510 qs51 q1508 q109 q1511 hy_X6_closeNumber rfl dX6_readLike_72 rfl rfl (Nat.le_of_ble_eq_true rfl) ⟨Nat.le_of_ble_eq_true rfl, Nat.le_of_ble_eq_true rfl⟩ ⟨Nat.le_of_ble_eq_true rfl, Nat.le_of_ble_eq_true rfl⟩ ?_
    refine r_aload_n X 0 dX6_readLike_75 rfl rfl ?_
    refine r_bipush X dX6_readLike_76 (by decide) ?_
    obtain ⟨ho5, h⟩ := cO_some h
    obtain ⟨σ6, h4, h⟩ := bd_some h
    refine r_cV (Wd := 0) X (fun l D sz => w_X6_sign l D sz h4) ho5.1 rfl q1514 qs52 q1512 q109 q1515 hy_X6_sign rfl dX6_readLike_78 rfl rfl (Nat.le_of_ble_eq_true rfl) ⟨Nat.le_of_ble_eq_true rfl, Nat.le_of_ble_eq_true rfl⟩ ⟨Nat.le_of_ble_eq_true rfl, Nat.le_of_ble_eq_true rfl⟩ ?_
    refine r_aload_n X 0 dX6_readLike_81 rfl rfl ?_
    obtain ⟨ho7, h⟩ := cO_some h
    refine r_getA (kf := 24) X ho7.1 rfl (by decide) (by decide) (Or.inl q1265) dX6_readLike_82 ?_
    refine r_iload_n X 2 dX6_readLike_85 rfl rfl ?_
    refine r_aload_n X 0 dX6_readLike_86 rfl rfl ?_
    refine r_iconst X dX6_readLike_87 ?_
    refine r_bipush X dX6_readLike_88 (by decide) ?_
    obtain ⟨r9, σ10, h8, h⟩ := bd2_some h
    refine r_cV (Wd := 2) X (fun l D sz => w_X6_plain l D sz h8) ho7.1 rfl q1480 qs45 q1478 q109 q1481 hy_X6_plain rfl dX6_readLike_90 rfl rfl (by simp only [List.map_cons, List.map_nil, cat_rf, cat_iv, cat_jv, cat_ref, List.sum_cons, List.sum_nil]; decide) ⟨Nat.le_of_ble_eq_true rfl, Nat.le_of_ble_eq_true rfl⟩ ⟨Nat.le_of_ble_eq_true rfl, Nat.le_of_ble_eq_true rfl⟩ ?_
    obtain ⟨ho11, h⟩ := cO_some h
    obtain ⟨hv12, h⟩ := ck_some h
    rw [← hv12]
    refine r_iast X ho11.1 (ho11.2 24 (by decide)) rfl rfl rfl (by decide) dX6_readLike_93 h (fun h => ?_)
    refine r_let h (fun σ13 eσ13 h => ?_)
    refine r_aload_n X 0 dX6_readLike_94 rfl rfl ?_
    have hk14 : oc σ13 (a0) 5 := by rw [eσ13]; exact ho11
    refine r_getA (kf := 21) X hk14.1 rfl (by decide) (by decide) (Or.inl q1262) dX6_readLike_95 ?_
    refine r_iload_n X 1 dX6_readLike_98 rfl rfl ?_
    refine r_dup2 X dX6_readLike_99 rfl (cat_rf _) ?_
    refine r_iald X hk14.1 (hk14.2 21 (by decide)) rfl rfl rfl (by decide) dX6_readLike_100 h (fun h => ?_)
    refine r_iconst X dX6_readLike_101 ?_
    refine r_iadd X dX6_readLike_102 ?_
    refine r_iast X hk14.1 (hk14.2 21 (by decide)) rfl rfl rfl (by decide) dX6_readLike_103 h (fun h => ?_)
    refine r_let h (fun σ15 eσ15 h => ?_)
    cases h
    exact r_vret X hr dX6_readLike_104
  refine r_bipush X dX6_readLike_0 (by decide) ?_
  refine r_iload_n X 1 dX6_readLike_2 rfl rfl ?_
  refine r_imul X dX6_readLike_3 ?_
  refine r_aload_n X 0 dX6_readLike_4 rfl rfl ?_
  refine r_getA (kf := 21) X ho0.1 rfl (by decide) (by decide) (Or.inl q1262) dX6_readLike_5 ?_
  refine r_iload_n X 1 dX6_readLike_8 rfl rfl ?_
  refine r_iald X ho0.1 (ho0.2 21 (by decide)) rfl rfl rfl (by decide) dX6_readLike_9 h (fun h => ?_)
  refine r_iadd X dX6_readLike_10 ?_
  refine r_istore_n X dX6_readLike_11 rfl (hL 2 (by decide)) (lv' := [(2, iv (((12 * x1) + (gI (σ) (a0) 21 (x1))))), (0, .ref (a0)), (1, iv (x1))]) rfl ?_
  refine r_aload_n X 1 dX6_readLike_12 rfl rfl ?_
  refine r_getA (kf := 22) X ho0.1 rfl (by decide) (by decide) (Or.inl q1263) dX6_readLike_13 ?_
  refine r_iload_n X 0 dX6_readLike_16 rfl rfl ?_
  refine r_aload_n X 1 dX6_readLike_17 rfl rfl ?_
  refine r_iconst X dX6_readLike_18 ?_
  refine r_bipush X dX6_readLike_19 (by decide) ?_
  obtain ⟨r17, σ18, h16, h⟩ := bd2_some h
  refine r_cV (Wd := 2) X (fun l D sz => w_X6_plain l D sz h16) ho0.1 rfl q1480 qs45 q1478 q109 q1481 hy_X6_plain rfl dX6_readLike_21 rfl rfl (by simp only [List.map_cons, List.map_nil, cat_rf, cat_iv, cat_jv, cat_ref, List.sum_cons, List.sum_nil]; decide) ⟨Nat.le_of_ble_eq_true rfl, Nat.le_of_ble_eq_true rfl⟩ ⟨Nat.le_of_ble_eq_true rfl, Nat.le_of_ble_eq_true rfl⟩ ?_
  obtain ⟨ho19, h⟩ := cO_some h
  obtain ⟨hv20, h⟩ := ck_some h
  rw [← hv20]
  refine r_iast X ho19.1 (ho19.2 22 (by decide)) rfl rfl rfl (by decide) dX6_readLike_24 h (fun h => ?_)
  refine r_let h (fun σ21 eσ21 h => ?_)
  refine r_aload_n X 1 dX6_readLike_25 rfl rfl ?_
  refine r_bipush X dX6_readLike_26 (by decide) ?_
  have hk23 : oc σ21 (a0) 5 := by rw [eσ21]; exact ho19
  obtain ⟨σ24, h22, h⟩ := bd_some h
  refine r_cV (Wd := 0) X (fun l D sz => w_X6_sign l D sz h22) hk23.1 rfl q1514 qs52 q1512 q109 q1515 hy_X6_sign rfl dX6_readLike_28 rfl rfl (Nat.le_of_ble_eq_true rfl) ⟨Nat.le_of_ble_eq_true rfl, Nat.le_of_ble_eq_true rfl⟩ ⟨Nat.le_of_ble_eq_true rfl, Nat.le_of_ble_eq_true rfl⟩ ?_
  refine r_aload_n X 1 dX6_readLike_31 rfl rfl ?_
  obtain ⟨ho25, h⟩ := cO_some h
  refine r_getA (kf := 23) X ho25.1 rfl (by decide) (by decide) (Or.inl q1264) dX6_readLike_32 ?_
  refine r_iload_n X 0 dX6_readLike_35 rfl rfl ?_
  refine r_aload_n X 1 dX6_readLike_36 rfl rfl ?_
  refine r_iconst X dX6_readLike_37 ?_
  refine r_bipush X dX6_readLike_38 (by decide) ?_
  obtain ⟨r27, σ28, h26, h⟩ := bd2_some h
  refine r_cV (Wd := 2) X (fun l D sz => w_X6_number l D sz h26) ho25.1 rfl q1484 qs46 q1482 q109 q1485 hy_X6_number rfl dX6_readLike_40 rfl rfl (by simp only [List.map_cons, List.map_nil, cat_rf, cat_iv, cat_jv, cat_ref, List.sum_cons, List.sum_nil]; decide) ⟨Nat.le_of_ble_eq_true rfl, Nat.le_of_ble_eq_true rfl⟩ ⟨Nat.le_of_ble_eq_true rfl, Nat.le_of_ble_eq_true rfl⟩ ?_
  obtain ⟨ho29, h⟩ := cO_some h
  obtain ⟨hv30, h⟩ := ck_some h
  rw [← hv30]
  refine r_iast X ho29.1 (ho29.2 23 (by decide)) rfl rfl rfl (by decide) dX6_readLike_43 h (fun h => ?_)
  refine r_let h (fun σ31 eσ31 h => ?_)
  refine r_aload_n X 1 dX6_readLike_44 rfl rfl ?_
  have hk32 : oc σ31 (a0) 5 := by rw [eσ31]; exact ho29
  refine r_getI (kf := 4) X hk32.1 rfl (by decide) rfl (Or.inl q1245) dX6_readLike_45 ?_
  refine r_iconst X dX6_readLike_48 ?_
  refine r_icmp_ne (tgt := 71) X dX6_readLike_49 (by decide) h (fun c33 h => ?_) (fun c33 h => ?_)
  · refine r_aload_n X 1 dX6_readLike_52 rfl rfl ?_
    refine r_getA (kf := 23) X hk32.1 rfl (by decide) (by decide) (Or.inl q1264) dX6_readLike_53 ?_
    refine r_iload_n X 0 dX6_readLike_56 rfl rfl ?_
    refine r_iald X hk32.1 (hk32.2 23 (by decide)) rfl rfl rfl (by decide) dX6_readLike_57 h (fun h => ?_)
    refine r_aload_n X 1 dX6_readLike_58 rfl rfl ?_
    refine r_getA (kf := 22) X hk32.1 rfl (by decide) (by decide) (Or.inl q1263) dX6_readLike_59 ?_
    refine r_iload_n X 0 dX6_readLike_62 rfl rfl ?_
    refine r_iald X hk32.1 (hk32.2 22 (by decide)) rfl rfl rfl (by decide) dX6_readLike_63 h (fun h => ?_)
    refine r_icmp_ne (tgt := 71) X dX6_readLike_64 (by decide) h (fun c34 h => ?_) (fun c34 h => ?_)
    · refine r_aload_n X 1 dX6_readLike_67 rfl rfl ?_
      obtain ⟨σ36, h35, h⟩ := bd_some h
      refine r_cV (Wd := 0) X (fun l D sz => w_X6_wrongAtLast l D sz h35) hk32.1 rfl q1506 qs50 q1504 q109 q1507 hy_X6_wrongAtLast rfl dX6_readLike_68 rfl rfl (Nat.le_of_ble_eq_true rfl) ⟨Nat.le_of_ble_eq_true rfl, Nat.le_of_ble_eq_true rfl⟩ ⟨Nat.le_of_ble_eq_true rfl, Nat.le_of_ble_eq_true rfl⟩ ?_
      exact V.sub [1, 2, 0] rfl (J71 (((12 * x1) + (gI (σ) (a0) 21 (x1)))) (σ36) h)
    · exact V.sub [1, 2, 0] rfl (J71 (((12 * x1) + (gI (σ) (a0) 21 (x1)))) (σ31) h)
  · exact V.sub [1, 2, 0] rfl (J71 (((12 * x1) + (gI (σ) (a0) 21 (x1)))) (σ31) h)
theorem hy_X6_readCost : yX6_readCost.cls ≠ "java/lang/invoke/MethodHandle" ∧ yX6_readCost.cls ≠ "java/lang/invoke/VarHandle" ∧ (parseMethodDescriptor yX6_readCost.desc).map (fun d => d.parameters.length) = some 2 := by decide +kernel
set_option maxHeartbeats 4000000 in
theorem w_X6_readCost (l : Launch) (D : DD) (sz : Nat) {σ : St} {a0 : Nat} {x1 : Int} {x2 : Int} {w : St} (h : f_X6_readCost σ a0 x1 x2 = some w) : Mt l yX6_readCost cX6_readCost 4 none ({ frames := 4, cells := 0, slots := 0, locals := 57 } : Room) D sz σ [.ref a0, iv (x1), iv (x2)] (.returned none) (w) 0 0 := by
  refine Mt.of (by decide +kernel) (Nat.le_of_ble_eq_true rfl) ?_
  intro Γ X hr hnl hini hnoh
  have X : Cx Γ cX6_readCost "DayBoyModel" _ := X
  have hL : ∀ i, i < 4 → i < nLc Γ := fun i q => by rw [hnl]; exact q
  show V Γ σ 0 0 0 [(0, .ref (a0)), (1, iv (x1)), (2, iv (x2))] []
  unfold f_X6_readCost at h
  obtain ⟨ho0, h⟩ := cO_some h
  have J59 : ∀ (σ_j59 : St), f_X6_readCost_j59 (a0) σ_j59 = some w → V Γ σ_j59 0 0 59 [(0, .ref (a0))] [] := by
    intro σ_j59 h
    unfold f_X6_readCost_j59 at h
    refine r_aload_n X 0 dX6_readCost_59 rfl rfl ?_
    obtain ⟨ho2, h⟩ := cO_some h
    obtain ⟨σ3, h1, h⟩ := bd_some h
    refine r_cV (Wd := 0) X (fun l D sz => w_X6_bad l D sz h1) ho2.1 rfl q1499 qs49 q1497 q109 q1500 hy_X6_bad rfl dX6_readCost_60 rfl rfl (Nat.le_of_ble_eq_true rfl) ⟨Nat.le_of_ble_eq_true rfl, Nat.le_of_ble_eq_true rfl⟩ ⟨Nat.le_of_ble_eq_true rfl, Nat.le_of_ble_eq_true rfl⟩ ?_
    cases h
    exact r_vret X hr dX6_readCost_63
  have J41 : ∀ (t0_j41 : Int) (σ_j41 : St), f_X6_readCost_j41 (a0) (x1) t0_j41 σ_j41 = some w → V Γ σ_j41 0 0 41 [(0, .ref (a0)), (1, iv (x1))] [iv (t0_j41)] := by
    intro t0_j41 σ_j41 h
    unfold f_X6_readCost_j41 at h
    refine r_istore_n X dX6_readCost_41 rfl (hL 3 (by decide)) (lv' := [(3, iv (t0_j41)), (0, .ref (a0)), (1, iv (x1))]) rfl ?_
    refine r_iload_n X 0 dX6_readCost_42 rfl rfl ?_
    refine r_iconst X dX6_readCost_43 ?_
    refine r_icmp_eq (tgt := 59) X dX6_readCost_44 (by decide) h (fun c4 h => ?_) (fun c4 h => ?_)
    · exact V.sub [1] rfl (J59 (σ_j41) h)
    · refine r_aload_n X 1 dX6_readCost_47 rfl rfl ?_
      obtain ⟨ho5, h⟩ := cO_some h
      refine r_getI (kf := 29) X ho5.1 rfl (by decide) rfl (Or.inl q1270) dX6_readCost_48 ?_
      refine r_iload_n X 0 dX6_readCost_51 rfl rfl ?_
      refine r_ishr X dX6_readCost_52 ?_
      refine r_iconst X dX6_readCost_53 ?_
      refine r_iand X dX6_readCost_54 ?_
      refine r_iconst X dX6_readCost_55 ?_
      refine r_icmp_ne (tgt := 64) X dX6_readCost_56 (by decide) h (fun c6 h => ?_) (fun c6 h => ?_)
      · exact V.sub [1] rfl (J59 (σ_j41) h)
      · refine r_aload_n X 1 dX6_readCost_64 rfl rfl ?_
        refine r_dup X dX6_readCost_65 rfl ?_
        refine r_getI (kf := 29) X ho5.1 rfl (by decide) rfl (Or.inl q1270) dX6_readCost_66 ?_
        refine r_iconst X dX6_readCost_69 ?_
        refine r_iload_n X 0 dX6_readCost_70 rfl rfl ?_
        refine r_ishl X dX6_readCost_71 ?_
        refine r_ior X dX6_readCost_72 ?_
        refine r_putI (kf := 29) X ho5.1 rfl (by decide) rfl rfl (Or.inl q1270) dX6_readCost_73 rfl ?_
        refine r_let h (fun σ7 eσ7 h => ?_)
        refine r_aload_n X 1 dX6_readCost_76 rfl rfl ?_
        refine r_dup X dX6_readCost_77 rfl ?_
        have hk8 : oc σ7 (a0) 5 := by rw [eσ7]; exact ho5
        refine r_getI (kf := 3) X hk8.1 rfl (by decide) rfl (Or.inl q1244) dX6_readCost_78 ?_
        refine r_iconst X dX6_readCost_81 ?_
        refine r_iadd X dX6_readCost_82 ?_
        refine r_putI (kf := 3) X hk8.1 rfl (by decide) rfl rfl (Or.inl q1244) dX6_readCost_83 rfl ?_
        refine r_let h (fun σ9 eσ9 h => ?_)
        refine r_aload_n X 1 dX6_readCost_86 rfl rfl ?_
        have hk10 : oc σ9 (a0) 5 := by rw [eσ9]; exact hk8
        refine r_getA (kf := 26) X hk10.1 rfl (by decide) (by decide) (Or.inl q1267) dX6_readCost_87 ?_
        refine r_iconst X dX6_readCost_90 ?_
        refine r_iload_n X 2 dX6_readCost_91 rfl rfl ?_
        refine r_imul X dX6_readCost_92 ?_
        refine r_iload_n X 0 dX6_readCost_93 rfl rfl ?_
        refine r_iadd X dX6_readCost_94 ?_
        refine r_aload_n X 1 dX6_readCost_95 rfl rfl ?_
        refine r_iconst X dX6_readCost_96 ?_
        refine r_bipush X dX6_readCost_97 (by decide) ?_
        obtain ⟨r12, σ13, h11, h⟩ := bd2_some h
        refine r_cV (Wd := 2) X (fun l D sz => w_X6_plain l D sz h11) hk10.1 rfl q1480 qs45 q1478 q109 q1481 hy_X6_plain rfl dX6_readCost_99 rfl rfl (by simp only [List.map_cons, List.map_nil, cat_rf, cat_iv, cat_jv, cat_ref, List.sum_cons, List.sum_nil]; decide) ⟨Nat.le_of_ble_eq_true rfl, Nat.le_of_ble_eq_true rfl⟩ ⟨Nat.le_of_ble_eq_true rfl, Nat.le_of_ble_eq_true rfl⟩ ?_
        obtain ⟨ho14, h⟩ := cO_some h
        obtain ⟨hv15, h⟩ := ck_some h
        rw [← hv15]
        refine r_iast X ho14.1 (ho14.2 26 (by decide)) rfl rfl rfl (by decide) dX6_readCost_102 h (fun h => ?_)
        refine r_let h (fun σ16 eσ16 h => ?_)
        cases h
        exact r_vret X hr dX6_readCost_103
  refine r_iload_n X 2 dX6_readCost_0 rfl rfl ?_
  refine r_bipush X dX6_readCost_1 (by decide) ?_
  refine r_icmp_ne (tgt := 10) X dX6_readCost_3 (by decide) h (fun c17 h => ?_) (fun c17 h => ?_)
  · refine r_iconst X dX6_readCost_6 ?_
    refine r_goto (tgt := 41) X dX6_readCost_7 (by decide) ?_
    exact V.sub [0, 1] rfl (J41 (0) (σ) h)
  · refine r_iload_n X 2 dX6_readCost_10 rfl rfl ?_
    refine r_bipush X dX6_readCost_11 (by decide) ?_
    refine r_icmp_ne (tgt := 20) X dX6_readCost_13 (by decide) h (fun c18 h => ?_) (fun c18 h => ?_)
    · refine r_iconst X dX6_readCost_16 ?_
      refine r_goto (tgt := 41) X dX6_readCost_17 (by decide) ?_
      exact V.sub [0, 1] rfl (J41 (1) (σ) h)
    · refine r_iload_n X 2 dX6_readCost_20 rfl rfl ?_
      refine r_bipush X dX6_readCost_21 (by decide) ?_
      refine r_icmp_ne (tgt := 30) X dX6_readCost_23 (by decide) h (fun c19 h => ?_) (fun c19 h => ?_)
      · refine r_iconst X dX6_readCost_26 ?_
        refine r_goto (tgt := 41) X dX6_readCost_27 (by decide) ?_
        exact V.sub [0, 1] rfl (J41 (2) (σ) h)
      · refine r_iload_n X 2 dX6_readCost_30 rfl rfl ?_
        refine r_bipush X dX6_readCost_31 (by decide) ?_
        refine r_icmp_ne (tgt := 40) X dX6_readCost_33 (by decide) h (fun c20 h => ?_) (fun c20 h => ?_)
        · refine r_iconst X dX6_readCost_36 ?_
          refine r_goto (tgt := 41) X dX6_readCost_37 (by decide) ?_
          exact V.sub [0, 1] rfl (J41 (3) (σ) h)
        · refine r_iconst X dX6_readCost_40 ?_
          exact V.sub [0, 1] rfl (J41 ((-1)) (σ) h)
theorem hy_X6_item : yX6_item.cls ≠ "java/lang/invoke/MethodHandle" ∧ yX6_item.cls ≠ "java/lang/invoke/VarHandle" ∧ (parseMethodDescriptor yX6_item.desc).map (fun d => d.parameters.length) = some 1 := by decide +kernel
set_option maxHeartbeats 4000000 in
theorem w_X6_item (l : Launch) (D : DD) (sz : Nat) {σ : St} {a0 : Nat} {x1 : Int} {w : St} (h : f_X6_item σ a0 x1 = some w) : Mt l yX6_item cX6_item 4 none ({ frames := 5, cells := 0, slots := 0, locals := 72 } : Room) D sz σ [.ref a0, iv (x1)] (.returned none) (w) 0 0 := by
  refine Mt.of (by decide +kernel) (Nat.le_of_ble_eq_true rfl) ?_
  intro Γ X hr hnl hini hnoh
  have X : Cx Γ cX6_item "DayBoyModel" _ := X
  have hL : ∀ i, i < 4 → i < nLc Γ := fun i q => by rw [hnl]; exact q
  show V Γ σ 0 0 0 [(0, .ref (a0)), (1, iv (x1))] []
  unfold f_X6_item at h
  obtain ⟨ho0, h⟩ := cO_some h
  have J264 : ∀ (t0_j264 : Int) (t1_j264 : Int) (t2_j264 : Int) (σ_j264 : St), f_X6_item_j264 (a0) t0_j264 t1_j264 t2_j264 σ_j264 = some w → V Γ σ_j264 0 0 264 [(0, .ref (a0))] [iv (t0_j264), iv (t1_j264), iv (t2_j264), va_rf (aR (σ_j264) (a0) 25)] := by
    intro t0_j264 t1_j264 t2_j264 σ_j264 h
    unfold f_X6_item_j264 at h
    refine r_ior X dX6_item_264 ?_
    obtain ⟨ho1, h⟩ := cO_some h
    refine r_iast X ho1.1 (ho1.2 25 (by decide)) rfl rfl rfl (by decide) dX6_item_265 h (fun h => ?_)
    refine r_let h (fun σ2 eσ2 h => ?_)
    refine r_goto (tgt := 275) X dX6_item_266 (by decide) ?_
    cases h
    exact r_vret X hr dX6_item_275
  have J238 : ∀ (v3_j238 : Int) (σ_j238 : St), f_X6_item_j238 (a0) (x1) v3_j238 σ_j238 = some w → V Γ σ_j238 0 0 238 [(0, .ref (a0)), (1, iv (x1)), (3, iv (v3_j238))] [] := by
    intro v3_j238 σ_j238 h
    unfold f_X6_item_j238 at h
    refine r_aload_n X 0 dX6_item_238 rfl rfl ?_
    obtain ⟨ho4, h⟩ := cO_some h
    obtain ⟨σ5, h3, h⟩ := bd_some h
    refine r_cV (Wd := 0) X (fun l D sz => w_X6_closeNumber l D sz h3) ho4.1 rfl q1510 qs51 q1508 q109 q1511 hy_X6_closeNumber rfl dX6_item_239 rfl rfl (Nat.le_of_ble_eq_true rfl) ⟨Nat.le_of_ble_eq_true rfl, Nat.le_of_ble_eq_true rfl⟩ ⟨Nat.le_of_ble_eq_true rfl, Nat.le_of_ble_eq_true rfl⟩ ?_
    refine r_aload_n X 0 dX6_item_242 rfl rfl ?_
    obtain ⟨ho6, h⟩ := cO_some h
    refine r_getA (kf := 25) X ho6.1 rfl (by decide) (by decide) (Or.inl q1266) dX6_item_243 ?_
    refine r_iload_n X 1 dX6_item_246 rfl rfl ?_
    refine r_dup2 X dX6_item_247 rfl (cat_rf _) ?_
    refine r_iald X ho6.1 (ho6.2 25 (by decide)) rfl rfl rfl (by decide) dX6_item_248 h (fun h => ?_)
    refine r_aload_n X 0 dX6_item_249 rfl rfl ?_
    refine r_getI (kf := 4) X ho6.1 rfl (by decide) rfl (Or.inl q1245) dX6_item_250 ?_
    refine r_iconst X dX6_item_253 ?_
    refine r_icmp_ne (tgt := 263) X dX6_item_254 (by decide) h (fun c7 h => ?_) (fun c7 h => ?_)
    · refine r_iconst X dX6_item_257 ?_
      refine r_iload_n X 2 dX6_item_258 rfl rfl ?_
      refine r_ishl X dX6_item_259 ?_
      refine r_goto (tgt := 264) X dX6_item_260 (by decide) ?_
      exact V.sub [0] rfl (J264 ((bShl (1) (v3_j238))) ((gI (σ5) (a0) 25 (x1))) (x1) (σ5) h)
    · refine r_iconst X dX6_item_263 ?_
      exact V.sub [0] rfl (J264 (0) ((gI (σ5) (a0) 25 (x1))) (x1) (σ5) h)
  have J188 : ∀ (v2_j188 : Int) (σ_j188 : St), f_X6_item_j188 (a0) (x1) v2_j188 σ_j188 = some w → V Γ σ_j188 0 0 188 [(0, .ref (a0)), (1, iv (x1)), (2, iv (v2_j188))] [] := by
    intro v2_j188 σ_j188 h
    unfold f_X6_item_j188 at h
    refine r_iload_n X 2 dX6_item_188 rfl rfl ?_
    refine r_bipush X dX6_item_189 (by decide) ?_
    refine r_icmp_ne (tgt := 269) X dX6_item_191 (by decide) h (fun c8 h => ?_) (fun c8 h => ?_)
    · refine r_aload_n X 0 dX6_item_194 rfl rfl ?_
      refine r_dup X dX6_item_195 rfl ?_
      obtain ⟨ho9, h⟩ := cO_some h
      refine r_getI (kf := 3) X ho9.1 rfl (by decide) rfl (Or.inl q1244) dX6_item_196 ?_
      refine r_iconst X dX6_item_199 ?_
      refine r_iadd X dX6_item_200 ?_
      refine r_putI (kf := 3) X ho9.1 rfl (by decide) rfl rfl (Or.inl q1244) dX6_item_201 rfl ?_
      refine r_let h (fun σ10 eσ10 h => ?_)
      refine r_aload_n X 0 dX6_item_204 rfl rfl ?_
      refine r_iconst X dX6_item_205 ?_
      refine r_bipush X dX6_item_206 (by decide) ?_
      have hk12 : oc σ10 (a0) 5 := by rw [eσ10]; exact ho9
      obtain ⟨r13, σ14, h11, h⟩ := bd2_some h
      refine r_cV (Wd := 0) X (fun l D sz => w_X6_number l D sz h11) hk12.1 rfl q1484 qs46 q1482 q109 q1485 hy_X6_number rfl dX6_item_208 rfl rfl (Nat.le_of_ble_eq_true rfl) ⟨Nat.le_of_ble_eq_true rfl, Nat.le_of_ble_eq_true rfl⟩ ⟨Nat.le_of_ble_eq_true rfl, Nat.le_of_ble_eq_true rfl⟩ ?_
      refine r_istore_n X dX6_item_211 rfl (hL 3 (by decide)) (lv' := [(3, iv (r13)), (0, .ref (a0)), (1, iv (x1)), (2, iv (v2_j188))]) rfl ?_
      refine r_aload_n X 1 dX6_item_212 rfl rfl ?_
      obtain ⟨ho15, h⟩ := cO_some h
      refine r_getI (kf := 4) X ho15.1 rfl (by decide) rfl (Or.inl q1245) dX6_item_213 ?_
      refine r_iconst X dX6_item_216 ?_
      refine r_icmp_ne (tgt := 238) X dX6_item_217 (by decide) h (fun c16 h => ?_) (fun c16 h => ?_)
      · refine r_aload_n X 1 dX6_item_220 rfl rfl ?_
        refine r_getA (kf := 25) X ho15.1 rfl (by decide) (by decide) (Or.inl q1266) dX6_item_221 ?_
        refine r_iload_n X 2 dX6_item_224 rfl rfl ?_
        refine r_iald X ho15.1 (ho15.2 25 (by decide)) rfl rfl rfl (by decide) dX6_item_225 h (fun h => ?_)
        refine r_iload_n X 0 dX6_item_226 rfl rfl ?_
        refine r_ishr X dX6_item_227 ?_
        refine r_iconst X dX6_item_228 ?_
        refine r_iand X dX6_item_229 ?_
        refine r_iconst X dX6_item_230 ?_
        refine r_icmp_ne (tgt := 238) X dX6_item_231 (by decide) h (fun c17 h => ?_) (fun c17 h => ?_)
        · refine r_aload_n X 1 dX6_item_234 rfl rfl ?_
          obtain ⟨σ19, h18, h⟩ := bd_some h
          refine r_cV (Wd := 0) X (fun l D sz => w_X6_wrongAtLast l D sz h18) ho15.1 rfl q1506 qs50 q1504 q109 q1507 hy_X6_wrongAtLast rfl dX6_item_235 rfl rfl (Nat.le_of_ble_eq_true rfl) ⟨Nat.le_of_ble_eq_true rfl, Nat.le_of_ble_eq_true rfl⟩ ⟨Nat.le_of_ble_eq_true rfl, Nat.le_of_ble_eq_true rfl⟩ ?_
          exact V.sub [1, 2, 0] rfl (J238 (r13) (σ19) h)
        · exact V.sub [1, 2, 0] rfl (J238 (r13) (σ14) h)
      · exact V.sub [1, 2, 0] rfl (J238 (r13) (σ14) h)
    · refine r_aload_n X 0 dX6_item_269 rfl rfl ?_
      refine r_iload_n X 1 dX6_item_270 rfl rfl ?_
      refine r_iload_n X 2 dX6_item_271 rfl rfl ?_
      obtain ⟨ho21, h⟩ := cO_some h
      obtain ⟨σ22, h20, h⟩ := bd_some h
      refine r_cV (Wd := 0) X (fun l D sz => w_X6_readCost l D sz h20) ho21.1 rfl q1567 qs64 q1565 q109 q1568 hy_X6_readCost rfl dX6_item_272 rfl rfl (Nat.le_of_ble_eq_true rfl) ⟨Nat.le_of_ble_eq_true rfl, Nat.le_of_ble_eq_true rfl⟩ ⟨Nat.le_of_ble_eq_true rfl, Nat.le_of_ble_eq_true rfl⟩ ?_
      cases h
      exact r_vret X hr dX6_item_275
  have J153 : ∀ (v2_j153 : Int) (σ_j153 : St), f_X6_item_j153 (a0) (x1) v2_j153 σ_j153 = some w → V Γ σ_j153 0 0 153 [(0, .ref (a0)), (1, iv (x1)), (2, iv (v2_j153))] [] := by
    intro v2_j153 σ_j153 h
    unfold f_X6_item_j153 at h
    refine r_iload_n X 2 dX6_item_153 rfl rfl ?_
    refine r_bipush X dX6_item_154 (by decide) ?_
    refine r_icmp_ne (tgt := 188) X dX6_item_156 (by decide) h (fun c23 h => ?_) (fun c23 h => ?_)
    · refine r_aload_n X 0 dX6_item_159 rfl rfl ?_
      obtain ⟨ho24, h⟩ := cO_some h
      refine r_getA (kf := 21) X ho24.1 rfl (by decide) (by decide) (Or.inl q1262) dX6_item_160 ?_
      refine r_iload_n X 1 dX6_item_163 rfl rfl ?_
      refine r_iald X ho24.1 (ho24.2 21 (by decide)) rfl rfl rfl (by decide) dX6_item_164 h (fun h => ?_)
      refine r_bipush X dX6_item_165 (by decide) ?_
      refine r_icmp_ge (tgt := 188) X dX6_item_167 (by decide) h (fun c25 h => ?_) (fun c25 h => ?_)
      · refine r_aload_n X 0 dX6_item_170 rfl rfl ?_
        refine r_dup X dX6_item_171 rfl ?_
        refine r_getI (kf := 3) X ho24.1 rfl (by decide) rfl (Or.inl q1244) dX6_item_172 ?_
        refine r_iconst X dX6_item_175 ?_
        refine r_iadd X dX6_item_176 ?_
        refine r_putI (kf := 3) X ho24.1 rfl (by decide) rfl rfl (Or.inl q1244) dX6_item_177 rfl ?_
        refine r_let h (fun σ26 eσ26 h => ?_)
        refine r_aload_n X 0 dX6_item_180 rfl rfl ?_
        refine r_iload_n X 1 dX6_item_181 rfl rfl ?_
        have hk28 : oc σ26 (a0) 5 := by rw [eσ26]; exact ho24
        obtain ⟨σ29, h27, h⟩ := bd_some h
        refine r_cV (Wd := 0) X (fun l D sz => w_X6_readLike l D sz h27) hk28.1 rfl q1563 qs63 q1561 q109 q1564 hy_X6_readLike rfl dX6_item_182 rfl rfl (Nat.le_of_ble_eq_true rfl) ⟨Nat.le_of_ble_eq_true rfl, Nat.le_of_ble_eq_true rfl⟩ ⟨Nat.le_of_ble_eq_true rfl, Nat.le_of_ble_eq_true rfl⟩ ?_
        refine r_goto (tgt := 275) X dX6_item_185 (by decide) ?_
        cases h
        exact r_vret X hr dX6_item_275
      · exact V.sub [0, 1, 2] rfl (J188 (v2_j153) (σ_j153) h)
    · exact V.sub [0, 1, 2] rfl (J188 (v2_j153) (σ_j153) h)
  have J118 : ∀ (v2_j118 : Int) (σ_j118 : St), f_X6_item_j118 (a0) (x1) v2_j118 σ_j118 = some w → V Γ σ_j118 0 0 118 [(0, .ref (a0)), (1, iv (x1)), (2, iv (v2_j118))] [] := by
    intro v2_j118 σ_j118 h
    unfold f_X6_item_j118 at h
    refine r_iload_n X 2 dX6_item_118 rfl rfl ?_
    refine r_bipush X dX6_item_119 (by decide) ?_
    refine r_icmp_ne (tgt := 153) X dX6_item_121 (by decide) h (fun c30 h => ?_) (fun c30 h => ?_)
    · refine r_aload_n X 0 dX6_item_124 rfl rfl ?_
      obtain ⟨ho31, h⟩ := cO_some h
      refine r_getA (kf := 18) X ho31.1 rfl (by decide) (by decide) (Or.inl q1259) dX6_item_125 ?_
      refine r_iload_n X 1 dX6_item_128 rfl rfl ?_
      refine r_iald X ho31.1 (ho31.2 18 (by decide)) rfl rfl rfl (by decide) dX6_item_129 h (fun h => ?_)
      refine r_bipush X dX6_item_130 (by decide) ?_
      refine r_icmp_ge (tgt := 153) X dX6_item_132 (by decide) h (fun c32 h => ?_) (fun c32 h => ?_)
      · refine r_aload_n X 0 dX6_item_135 rfl rfl ?_
        refine r_dup X dX6_item_136 rfl ?_
        refine r_getI (kf := 3) X ho31.1 rfl (by decide) rfl (Or.inl q1244) dX6_item_137 ?_
        refine r_iconst X dX6_item_140 ?_
        refine r_iadd X dX6_item_141 ?_
        refine r_putI (kf := 3) X ho31.1 rfl (by decide) rfl rfl (Or.inl q1244) dX6_item_142 rfl ?_
        refine r_let h (fun σ33 eσ33 h => ?_)
        refine r_aload_n X 0 dX6_item_145 rfl rfl ?_
        refine r_iload_n X 1 dX6_item_146 rfl rfl ?_
        have hk35 : oc σ33 (a0) 5 := by rw [eσ33]; exact ho31
        obtain ⟨σ36, h34, h⟩ := bd_some h
        refine r_cV (Wd := 0) X (fun l D sz => w_X6_readStep l D sz h34) hk35.1 rfl q1559 qs62 q1557 q109 q1560 hy_X6_readStep rfl dX6_item_147 rfl rfl (Nat.le_of_ble_eq_true rfl) ⟨Nat.le_of_ble_eq_true rfl, Nat.le_of_ble_eq_true rfl⟩ ⟨Nat.le_of_ble_eq_true rfl, Nat.le_of_ble_eq_true rfl⟩ ?_
        refine r_goto (tgt := 275) X dX6_item_150 (by decide) ?_
        cases h
        exact r_vret X hr dX6_item_275
      · exact V.sub [0, 1, 2] rfl (J153 (v2_j118) (σ_j118) h)
    · exact V.sub [0, 1, 2] rfl (J153 (v2_j118) (σ_j118) h)
  refine r_aload_n X 0 dX6_item_0 rfl rfl ?_
  obtain ⟨r38, σ39, h37, h⟩ := bd2_some h
  refine r_cV (Wd := 0) X (fun l D sz => w_X6_look l D sz h37) ho0.1 rfl q1488 qs47 q1486 q109 q1489 hy_X6_look rfl dX6_item_1 rfl rfl (Nat.le_of_ble_eq_true rfl) ⟨Nat.le_of_ble_eq_true rfl, Nat.le_of_ble_eq_true rfl⟩ ⟨Nat.le_of_ble_eq_true rfl, Nat.le_of_ble_eq_true rfl⟩ ?_
  refine r_istore_n X dX6_item_4 rfl (hL 2 (by decide)) (lv' := [(2, iv (r38)), (0, .ref (a0)), (1, iv (x1))]) rfl ?_
  refine r_iload_n X 0 dX6_item_5 rfl rfl ?_
  refine r_bipush X dX6_item_6 (by decide) ?_
  refine r_icmp_ne (tgt := 118) X dX6_item_8 (by decide) h (fun c40 h => ?_) (fun c40 h => ?_)
  · refine r_aload_n X 1 dX6_item_11 rfl rfl ?_
    obtain ⟨ho41, h⟩ := cO_some h
    refine r_getA (kf := 15) X ho41.1 rfl (by decide) (by decide) (Or.inl q1256) dX6_item_12 ?_
    refine r_iload_n X 2 dX6_item_15 rfl rfl ?_
    refine r_iald X ho41.1 (ho41.2 15 (by decide)) rfl rfl rfl (by decide) dX6_item_16 h (fun h => ?_)
    refine r_bipush X dX6_item_17 (by decide) ?_
    refine r_icmp_ge (tgt := 118) X dX6_item_19 (by decide) h (fun c42 h => ?_) (fun c42 h => ?_)
    · refine r_aload_n X 1 dX6_item_22 rfl rfl ?_
      refine r_dup X dX6_item_23 rfl ?_
      refine r_getI (kf := 3) X ho41.1 rfl (by decide) rfl (Or.inl q1244) dX6_item_24 ?_
      refine r_iconst X dX6_item_27 ?_
      refine r_iadd X dX6_item_28 ?_
      refine r_putI (kf := 3) X ho41.1 rfl (by decide) rfl rfl (Or.inl q1244) dX6_item_29 rfl ?_
      refine r_let h (fun σ43 eσ43 h => ?_)
      refine r_aload_n X 1 dX6_item_32 rfl rfl ?_
      have hk44 : oc σ43 (a0) 5 := by rw [eσ43]; exact ho41
      refine r_getA (kf := 16) X hk44.1 rfl (by decide) (by decide) (Or.inl q1257) dX6_item_33 ?_
      refine r_bipush X dX6_item_36 (by decide) ?_
      refine r_iload_n X 2 dX6_item_38 rfl rfl ?_
      refine r_imul X dX6_item_39 ?_
      refine r_aload_n X 1 dX6_item_40 rfl rfl ?_
      refine r_getA (kf := 15) X hk44.1 rfl (by decide) (by decide) (Or.inl q1256) dX6_item_41 ?_
      refine r_iload_n X 2 dX6_item_44 rfl rfl ?_
      refine r_iald X hk44.1 (hk44.2 15 (by decide)) rfl rfl rfl (by decide) dX6_item_45 h (fun h => ?_)
      refine r_iadd X dX6_item_46 ?_
      refine r_aload_n X 1 dX6_item_47 rfl rfl ?_
      refine r_iconst X dX6_item_48 ?_
      refine r_sipush X dX6_item_49 (by decide) ?_
      obtain ⟨r46, σ47, h45, h⟩ := bd2_some h
      refine r_cV (Wd := 2) X (fun l D sz => w_X6_plain l D sz h45) hk44.1 rfl q1480 qs45 q1478 q109 q1481 hy_X6_plain rfl dX6_item_52 rfl rfl (by simp only [List.map_cons, List.map_nil, cat_rf, cat_iv, cat_jv, cat_ref, List.sum_cons, List.sum_nil]; decide) ⟨Nat.le_of_ble_eq_true rfl, Nat.le_of_ble_eq_true rfl⟩ ⟨Nat.le_of_ble_eq_true rfl, Nat.le_of_ble_eq_true rfl⟩ ?_
      obtain ⟨ho48, h⟩ := cO_some h
      obtain ⟨hv49, h⟩ := ck_some h
      rw [← hv49]
      refine r_iast X ho48.1 (ho48.2 16 (by decide)) rfl rfl rfl (by decide) dX6_item_55 h (fun h => ?_)
      refine r_let h (fun σ50 eσ50 h => ?_)
      refine r_aload_n X 1 dX6_item_56 rfl rfl ?_
      refine r_bipush X dX6_item_57 (by decide) ?_
      have hk52 : oc σ50 (a0) 5 := by rw [eσ50]; exact ho48
      obtain ⟨σ53, h51, h⟩ := bd_some h
      refine r_cV (Wd := 0) X (fun l D sz => w_X6_sign l D sz h51) hk52.1 rfl q1514 qs52 q1512 q109 q1515 hy_X6_sign rfl dX6_item_59 rfl rfl (Nat.le_of_ble_eq_true rfl) ⟨Nat.le_of_ble_eq_true rfl, Nat.le_of_ble_eq_true rfl⟩ ⟨Nat.le_of_ble_eq_true rfl, Nat.le_of_ble_eq_true rfl⟩ ?_
      refine r_aload_n X 1 dX6_item_62 rfl rfl ?_
      obtain ⟨ho54, h⟩ := cO_some h
      refine r_getA (kf := 17) X ho54.1 rfl (by decide) (by decide) (Or.inl q1258) dX6_item_63 ?_
      refine r_bipush X dX6_item_66 (by decide) ?_
      refine r_iload_n X 2 dX6_item_68 rfl rfl ?_
      refine r_imul X dX6_item_69 ?_
      refine r_aload_n X 1 dX6_item_70 rfl rfl ?_
      refine r_getA (kf := 15) X ho54.1 rfl (by decide) (by decide) (Or.inl q1256) dX6_item_71 ?_
      refine r_iload_n X 2 dX6_item_74 rfl rfl ?_
      refine r_iald X ho54.1 (ho54.2 15 (by decide)) rfl rfl rfl (by decide) dX6_item_75 h (fun h => ?_)
      refine r_iadd X dX6_item_76 ?_
      refine r_aload_n X 1 dX6_item_77 rfl rfl ?_
      refine r_iconst X dX6_item_78 ?_
      refine r_aload_n X 1 dX6_item_79 rfl rfl ?_
      refine r_getA (kf := 16) X ho54.1 rfl (by decide) (by decide) (Or.inl q1257) dX6_item_80 ?_
      refine r_bipush X dX6_item_83 (by decide) ?_
      refine r_iload_n X 2 dX6_item_85 rfl rfl ?_
      refine r_imul X dX6_item_86 ?_
      refine r_aload_n X 1 dX6_item_87 rfl rfl ?_
      refine r_getA (kf := 15) X ho54.1 rfl (by decide) (by decide) (Or.inl q1256) dX6_item_88 ?_
      refine r_iload_n X 2 dX6_item_91 rfl rfl ?_
      refine r_iald X ho54.1 (ho54.2 15 (by decide)) rfl rfl rfl (by decide) dX6_item_92 h (fun h => ?_)
      refine r_iadd X dX6_item_93 ?_
      refine r_iald X ho54.1 (ho54.2 16 (by decide)) rfl rfl rfl (by decide) dX6_item_94 h (fun h => ?_)
      obtain ⟨r56, h55, h⟩ := bd_some h
      refine r_cS (Wd := 3) X (fun l D sz => w_J3_max l D sz h55) q1128 q1556 q115 q1129 hy_J3_max rfl dX6_item_95 rfl rfl (by simp only [List.map_cons, List.map_nil, cat_rf, cat_iv, cat_jv, cat_ref, List.sum_cons, List.sum_nil]; decide) ⟨Nat.le_of_ble_eq_true rfl, Nat.le_of_ble_eq_true rfl⟩ ⟨Nat.le_of_ble_eq_true rfl, Nat.le_of_ble_eq_true rfl⟩ ?_
      refine r_sipush X dX6_item_98 (by decide) ?_
      obtain ⟨r58, σ59, h57, h⟩ := bd2_some h
      refine r_cV (Wd := 2) X (fun l D sz => w_X6_plain l D sz h57) ho54.1 rfl q1480 qs45 q1478 q109 q1481 hy_X6_plain rfl dX6_item_101 rfl rfl (by simp only [List.map_cons, List.map_nil, cat_rf, cat_iv, cat_jv, cat_ref, List.sum_cons, List.sum_nil]; decide) ⟨Nat.le_of_ble_eq_true rfl, Nat.le_of_ble_eq_true rfl⟩ ⟨Nat.le_of_ble_eq_true rfl, Nat.le_of_ble_eq_true rfl⟩ ?_
      obtain ⟨ho60, h⟩ := cO_some h
      obtain ⟨hv61, h⟩ := ck_some h
      rw [← hv61]
      refine r_iast X ho60.1 (ho60.2 17 (by decide)) rfl rfl rfl (by decide) dX6_item_104 h (fun h => ?_)
      refine r_let h (fun σ62 eσ62 h => ?_)
      refine r_aload_n X 1 dX6_item_105 rfl rfl ?_
      have hk63 : oc σ62 (a0) 5 := by rw [eσ62]; exact ho60
      refine r_getA (kf := 15) X hk63.1 rfl (by decide) (by decide) (Or.inl q1256) dX6_item_106 ?_
      refine r_iload_n X 2 dX6_item_109 rfl rfl ?_
      refine r_dup2 X dX6_item_110 rfl (cat_rf _) ?_
      refine r_iald X hk63.1 (hk63.2 15 (by decide)) rfl rfl rfl (by decide) dX6_item_111 h (fun h => ?_)
      refine r_iconst X dX6_item_112 ?_
      refine r_iadd X dX6_item_113 ?_
      refine r_iast X hk63.1 (hk63.2 15 (by decide)) rfl rfl rfl (by decide) dX6_item_114 h (fun h => ?_)
      refine r_let h (fun σ64 eσ64 h => ?_)
      refine r_goto (tgt := 275) X dX6_item_115 (by decide) ?_
      cases h
      exact r_vret X hr dX6_item_275
    · exact V.sub [1, 2, 0] rfl (J118 (r38) (σ39) h)
  · exact V.sub [1, 2, 0] rfl (J118 (r38) (σ39) h)
theorem hy_X6_readHead : yX6_readHead.cls ≠ "java/lang/invoke/MethodHandle" ∧ yX6_readHead.cls ≠ "java/lang/invoke/VarHandle" ∧ (parseMethodDescriptor yX6_readHead.desc).map (fun d => d.parameters.length) = some 1 := by decide +kernel
set_option maxHeartbeats 4000000 in
theorem w_X6_readHead (l : Launch) (D : DD) (sz : Nat) {σ : St} {a0 : Nat} {x1 : Int} {w : Int × St} (h : f_X6_readHead σ a0 x1 = some w) : Mt l yX6_readHead cX6_readHead 3 (some FieldType.int) ({ frames := 6, cells := 0, slots := 0, locals := 87 } : Room) D sz σ [.ref a0, iv (x1)] (.returned (some (iv w.1))) (w.2) 0 0 := by
  refine Mt.of (by decide +kernel) (Nat.le_of_ble_eq_true rfl) ?_
  intro Γ X hr hnl hini hnoh
  have X : Cx Γ cX6_readHead "DayBoyModel" _ := X
  have hL : ∀ i, i < 3 → i < nLc Γ := fun i q => by rw [hnl]; exact q
  show V Γ σ 0 0 0 [(0, .ref (a0)), (1, iv (x1))] []
  unfold f_X6_readHead at h
  obtain ⟨ho0, h⟩ := cO_some h
  have J107 : ∀ (σ_j107 : St), f_X6_readHead_j107 (a0) σ_j107 = some w → V Γ σ_j107 0 0 107 [(0, .ref (a0))] [] := by
    intro σ_j107 h
    unfold f_X6_readHead_j107 at h
    refine r_aload_n X 0 dX6_readHead_107 rfl rfl ?_
    obtain ⟨ho1, h⟩ := cO_some h
    refine r_getI (kf := 4) X ho1.1 rfl (by decide) rfl (Or.inl q1245) dX6_readHead_108 ?_
    refine r_iconst X dX6_readHead_111 ?_
    refine r_icmp_ne (tgt := 127) X dX6_readHead_112 (by decide) h (fun c2 h => ?_) (fun c2 h => ?_)
    · refine r_aload_n X 0 dX6_readHead_115 rfl rfl ?_
      obtain ⟨r4, σ5, h3, h⟩ := bd2_some h
      refine r_cV (Wd := 0) X (fun l D sz => w_X6_look l D sz h3) ho1.1 rfl q1488 qs47 q1486 q109 q1489 hy_X6_look rfl dX6_readHead_116 rfl rfl (Nat.le_of_ble_eq_true rfl) ⟨Nat.le_of_ble_eq_true rfl, Nat.le_of_ble_eq_true rfl⟩ ⟨Nat.le_of_ble_eq_true rfl, Nat.le_of_ble_eq_true rfl⟩ ?_
      refine r_iconst X dX6_readHead_119 ?_
      refine r_icmp_eq (tgt := 127) X dX6_readHead_120 (by decide) h (fun c6 h => ?_) (fun c6 h => ?_)
      · refine r_aload_n X 0 dX6_readHead_127 rfl rfl ?_
        obtain ⟨ho7, h⟩ := cO_some h
        refine r_getI (kf := 4) X ho7.1 rfl (by decide) rfl (Or.inl q1245) dX6_readHead_128 ?_
        cases h
        exact r_iret X hr dX6_readHead_131
      · refine r_aload_n X 0 dX6_readHead_123 rfl rfl ?_
        obtain ⟨ho9, h⟩ := cO_some h
        obtain ⟨σ10, h8, h⟩ := bd_some h
        refine r_cV (Wd := 0) X (fun l D sz => w_X6_bad l D sz h8) ho9.1 rfl q1499 qs49 q1497 q109 q1500 hy_X6_bad rfl dX6_readHead_124 rfl rfl (Nat.le_of_ble_eq_true rfl) ⟨Nat.le_of_ble_eq_true rfl, Nat.le_of_ble_eq_true rfl⟩ ⟨Nat.le_of_ble_eq_true rfl, Nat.le_of_ble_eq_true rfl⟩ ?_
        refine r_aload_n X 0 dX6_readHead_127 rfl rfl ?_
        obtain ⟨ho11, h⟩ := cO_some h
        refine r_getI (kf := 4) X ho11.1 rfl (by decide) rfl (Or.inl q1245) dX6_readHead_128 ?_
        cases h
        exact r_iret X hr dX6_readHead_131
    · refine r_aload_n X 0 dX6_readHead_127 rfl rfl ?_
      refine r_getI (kf := 4) X ho1.1 rfl (by decide) rfl (Or.inl q1245) dX6_readHead_128 ?_
      cases h
      exact r_iret X hr dX6_readHead_131
  refine r_aload_n X 0 dX6_readHead_0 rfl rfl ?_
  refine r_iconst X dX6_readHead_1 ?_
  refine r_putI (kf := 3) X ho0.1 rfl (by decide) rfl rfl (Or.inl q1244) dX6_readHead_2 rfl ?_
  refine r_let h (fun σ12 eσ12 h => ?_)
  refine r_aload_n X 0 dX6_readHead_5 rfl rfl ?_
  refine r_iconst X dX6_readHead_6 ?_
  have hk13 : oc σ12 (a0) 5 := by rw [eσ12]; exact ho0
  refine r_putI (kf := 4) X hk13.1 rfl (by decide) rfl rfl (Or.inl q1245) dX6_readHead_7 rfl ?_
  refine r_let h (fun σ14 eσ14 h => ?_)
  refine r_aload_n X 0 dX6_readHead_10 rfl rfl ?_
  refine r_iconst X dX6_readHead_11 ?_
  have hk15 : oc σ14 (a0) 5 := by rw [eσ14]; exact hk13
  refine r_putI (kf := 29) X hk15.1 rfl (by decide) rfl rfl (Or.inl q1270) dX6_readHead_12 rfl ?_
  refine r_let h (fun σ16 eσ16 h => ?_)
  refine r_aload_n X 0 dX6_readHead_15 rfl rfl ?_
  have hk17 : oc σ16 (a0) 5 := by rw [eσ16]; exact hk15
  refine r_getA (kf := 15) X hk17.1 rfl (by decide) (by decide) (Or.inl q1256) dX6_readHead_16 ?_
  refine r_iload_n X 1 dX6_readHead_19 rfl rfl ?_
  refine r_iconst X dX6_readHead_20 ?_
  refine r_iast X hk17.1 (hk17.2 15 (by decide)) rfl rfl rfl (by decide) dX6_readHead_21 h (fun h => ?_)
  refine r_let h (fun σ18 eσ18 h => ?_)
  refine r_aload_n X 0 dX6_readHead_22 rfl rfl ?_
  have hk19 : oc σ18 (a0) 5 := by rw [eσ18]; exact hk17
  refine r_getA (kf := 18) X hk19.1 rfl (by decide) (by decide) (Or.inl q1259) dX6_readHead_23 ?_
  refine r_iload_n X 1 dX6_readHead_26 rfl rfl ?_
  refine r_iconst X dX6_readHead_27 ?_
  refine r_iast X hk19.1 (hk19.2 18 (by decide)) rfl rfl rfl (by decide) dX6_readHead_28 h (fun h => ?_)
  refine r_let h (fun σ20 eσ20 h => ?_)
  refine r_aload_n X 0 dX6_readHead_29 rfl rfl ?_
  have hk21 : oc σ20 (a0) 5 := by rw [eσ20]; exact hk19
  refine r_getA (kf := 21) X hk21.1 rfl (by decide) (by decide) (Or.inl q1262) dX6_readHead_30 ?_
  refine r_iload_n X 1 dX6_readHead_33 rfl rfl ?_
  refine r_iconst X dX6_readHead_34 ?_
  refine r_iast X hk21.1 (hk21.2 21 (by decide)) rfl rfl rfl (by decide) dX6_readHead_35 h (fun h => ?_)
  refine r_let h (fun σ22 eσ22 h => ?_)
  refine r_aload_n X 0 dX6_readHead_36 rfl rfl ?_
  have hk23 : oc σ22 (a0) 5 := by rw [eσ22]; exact hk21
  refine r_getA (kf := 25) X hk23.1 rfl (by decide) (by decide) (Or.inl q1266) dX6_readHead_37 ?_
  refine r_iload_n X 1 dX6_readHead_40 rfl rfl ?_
  refine r_iconst X dX6_readHead_41 ?_
  refine r_iast X hk23.1 (hk23.2 25 (by decide)) rfl rfl rfl (by decide) dX6_readHead_42 h (fun h => ?_)
  refine r_let h (fun σ24 eσ24 h => ?_)
  refine r_iconst X dX6_readHead_43 ?_
  refine r_istore_n X dX6_readHead_44 rfl (hL 2 (by decide)) (lv' := [(2, iv (0)), (0, .ref (a0)), (1, iv (x1))]) rfl ?_
  have L45 : ∀ s : Int × St, lp (fun s => f_X6_readHead_b45 (a0) (x1) s.1 s.2) s = some w → V Γ (s.2) 0 0 45 [(0, .ref (a0)), (1, iv (x1)), (2, iv (s.1))] [] := by
    refine lp_rule (P := fun s : Int × St => V Γ (s.2) 0 0 45 [(0, .ref (a0)), (1, iv (x1)), (2, iv (s.1))] []) ?_
    intro s z1 h ihb1 ihe1
    obtain ⟨v2_1, σ_1⟩ := s
    have h : f_X6_readHead_b45 (a0) (x1) v2_1 σ_1 = some z1 := h
    unfold f_X6_readHead_b45 at h
    show V Γ σ_1 0 0 45 [(0, .ref (a0)), (1, iv (x1)), (2, iv (v2_1))] []
    refine r_iload_n X 2 dX6_readHead_45 rfl rfl ?_
    refine r_iconst X dX6_readHead_46 ?_
    refine r_icmp_ge (tgt := 67) X dX6_readHead_47 (by decide) h (fun c25 h => ?_) (fun c25 h => ?_)
    · refine r_aload_n X 0 dX6_readHead_50 rfl rfl ?_
      obtain ⟨ho26, h⟩ := cO_some h
      refine r_getA (kf := 26) X ho26.1 rfl (by decide) (by decide) (Or.inl q1267) dX6_readHead_51 ?_
      refine r_iconst X dX6_readHead_54 ?_
      refine r_iload_n X 1 dX6_readHead_55 rfl rfl ?_
      refine r_imul X dX6_readHead_56 ?_
      refine r_iload_n X 2 dX6_readHead_57 rfl rfl ?_
      refine r_iadd X dX6_readHead_58 ?_
      refine r_iconst X dX6_readHead_59 ?_
      refine r_iast X ho26.1 (ho26.2 26 (by decide)) rfl rfl rfl (by decide) dX6_readHead_60 h (fun h => ?_)
      refine r_let h (fun σ27 eσ27 h => ?_)
      refine r_iinc X 2 dX6_readHead_61 rfl (hL 2 (by decide)) (lv' := [(2, iv ((v2_1 + 1))), (0, .ref (a0)), (1, iv (x1))]) rfl ?_
      refine r_goto (tgt := 45) X dX6_readHead_64 (by decide) ?_
      exact V.sub [1, 2, 0] rfl (ihb1 _ (Option.some.inj h).symm)
    · have h := ex_some h ihe1
      refine r_aload_n X 0 dX6_readHead_67 rfl rfl ?_
      refine r_iload_n X 1 dX6_readHead_68 rfl rfl ?_
      obtain ⟨ho29, h⟩ := cO_some h
      obtain ⟨σ30, h28, h⟩ := bd_some h
      refine r_cV (Wd := 0) X (fun l D sz => w_X6_item l D sz h28) ho29.1 rfl q1554 qs61 q1552 q109 q1555 hy_X6_item rfl dX6_readHead_69 rfl rfl (Nat.le_of_ble_eq_true rfl) ⟨Nat.le_of_ble_eq_true rfl, Nat.le_of_ble_eq_true rfl⟩ ⟨Nat.le_of_ble_eq_true rfl, Nat.le_of_ble_eq_true rfl⟩ ?_
      have L72 : ∀ s : St, lp (fun s => f_X6_readHead_b72 (a0) (x1) s) s = some w → V Γ (s) 0 0 72 [(0, .ref (a0)), (1, iv (x1))] [] := by
        refine lp_rule (P := fun s : St => V Γ (s) 0 0 72 [(0, .ref (a0)), (1, iv (x1))] []) ?_
        intro s z1 h ihb1 ihe1
        obtain ⟨σ_1, es⟩ : ∃ q, q = s := ⟨s, rfl⟩
        subst es
        have h : f_X6_readHead_b72 (a0) (x1) σ_1 = some z1 := h
        unfold f_X6_readHead_b72 at h
        show V Γ σ_1 0 0 72 [(0, .ref (a0)), (1, iv (x1))] []
        refine r_aload_n X 0 dX6_readHead_72 rfl rfl ?_
        obtain ⟨ho31, h⟩ := cO_some h
        refine r_getI (kf := 4) X ho31.1 rfl (by decide) rfl (Or.inl q1245) dX6_readHead_73 ?_
        refine r_iconst X dX6_readHead_76 ?_
        refine r_icmp_ne (tgt := 107) X dX6_readHead_77 (by decide) h (fun c32 h => ?_) (fun c32 h => ?_)
        · refine r_aload_n X 0 dX6_readHead_80 rfl rfl ?_
          obtain ⟨r34, σ35, h33, h⟩ := bd2_some h
          refine r_cV (Wd := 0) X (fun l D sz => w_X6_look l D sz h33) ho31.1 rfl q1488 qs47 q1486 q109 q1489 hy_X6_look rfl dX6_readHead_81 rfl rfl (Nat.le_of_ble_eq_true rfl) ⟨Nat.le_of_ble_eq_true rfl, Nat.le_of_ble_eq_true rfl⟩ ⟨Nat.le_of_ble_eq_true rfl, Nat.le_of_ble_eq_true rfl⟩ ?_
          refine r_bipush X dX6_readHead_84 (by decide) ?_
          refine r_icmp_ne (tgt := 107) X dX6_readHead_86 (by decide) h (fun c36 h => ?_) (fun c36 h => ?_)
          · refine r_aload_n X 0 dX6_readHead_89 rfl rfl ?_
            refine r_dup X dX6_readHead_90 rfl ?_
            obtain ⟨ho37, h⟩ := cO_some h
            refine r_getI (kf := 3) X ho37.1 rfl (by decide) rfl (Or.inl q1244) dX6_readHead_91 ?_
            refine r_iconst X dX6_readHead_94 ?_
            refine r_iadd X dX6_readHead_95 ?_
            refine r_putI (kf := 3) X ho37.1 rfl (by decide) rfl rfl (Or.inl q1244) dX6_readHead_96 rfl ?_
            refine r_let h (fun σ38 eσ38 h => ?_)
            refine r_aload_n X 0 dX6_readHead_99 rfl rfl ?_
            refine r_iload_n X 1 dX6_readHead_100 rfl rfl ?_
            have hk40 : oc σ38 (a0) 5 := by rw [eσ38]; exact ho37
            obtain ⟨σ41, h39, h⟩ := bd_some h
            refine r_cV (Wd := 0) X (fun l D sz => w_X6_item l D sz h39) hk40.1 rfl q1554 qs61 q1552 q109 q1555 hy_X6_item rfl dX6_readHead_101 rfl rfl (Nat.le_of_ble_eq_true rfl) ⟨Nat.le_of_ble_eq_true rfl, Nat.le_of_ble_eq_true rfl⟩ ⟨Nat.le_of_ble_eq_true rfl, Nat.le_of_ble_eq_true rfl⟩ ?_
            refine r_goto (tgt := 72) X dX6_readHead_104 (by decide) ?_
            exact V.sub [0, 1] rfl (ihb1 _ (Option.some.inj h).symm)
          · have h := ex_some h ihe1
            exact V.sub [0] rfl (J107 (σ35) h)
        · have h := ex_some h ihe1
          exact V.sub [0] rfl (J107 (σ_1) h)
      exact V.sub [0, 1] rfl (L72 (σ30) h)
  exact V.sub [1, 2, 0] rfl (L45 (0, σ24) h)
theorem hy_X6_readThing : yX6_readThing.cls ≠ "java/lang/invoke/MethodHandle" ∧ yX6_readThing.cls ≠ "java/lang/invoke/VarHandle" ∧ (parseMethodDescriptor yX6_readThing.desc).map (fun d => d.parameters.length) = some 2 := by decide +kernel
set_option maxHeartbeats 4000000 in
theorem w_X6_readThing (l : Launch) (D : DD) (sz : Nat) {σ : St} {a0 : Nat} {x1 : Int} {x2 : Int} {w : St} (h : f_X6_readThing σ a0 x1 x2 = some w) : Mt l yX6_readThing cX6_readThing 6 none ({ frames := 4, cells := 0, slots := 0, locals := 55 } : Room) D sz σ [.ref a0, iv (x1), iv (x2)] (.returned none) (w) 0 0 := by
  refine Mt.of (by decide +kernel) (Nat.le_of_ble_eq_true rfl) ?_
  intro Γ X hr hnl hini hnoh
  have X : Cx Γ cX6_readThing "DayBoyModel" _ := X
  have hL : ∀ i, i < 6 → i < nLc Γ := fun i q => by rw [hnl]; exact q
  show V Γ σ 0 0 0 [(0, .ref (a0)), (1, iv (x1)), (2, iv (x2))] []
  unfold f_X6_readThing at h
  obtain ⟨ho0, h⟩ := cO_some h
  have J71 : ∀ (v3_j71 : Int) (v4_j71 : Int) (v5_j71 : Int) (σ_j71 : St), f_X6_readThing_j71 (a0) (x1) (x2) v3_j71 v4_j71 v5_j71 σ_j71 = some w → V Γ σ_j71 0 0 71 [(0, .ref (a0)), (1, iv (x1)), (2, iv (x2)), (3, iv (v3_j71)), (4, iv (v4_j71)), (5, iv (v5_j71))] [] := by
    intro v3_j71 v4_j71 v5_j71 σ_j71 h
    unfold f_X6_readThing_j71 at h
    refine r_iload_n X 2 dX6_readThing_71 rfl rfl ?_
    refine r_if_eq (tgt := 98) X dX6_readThing_72 (by decide) h (fun c1 h => ?_) (fun c1 h => ?_)
    · cases h
      exact r_vret X hr dX6_readThing_98
    · refine r_aload_n X 0 dX6_readThing_75 rfl rfl ?_
      obtain ⟨ho2, h⟩ := cO_some h
      refine r_getA (kf := 66) X ho2.1 rfl (by decide) (by decide) (Or.inl q1307) dX6_readThing_76 ?_
      refine r_iload_n X 1 dX6_readThing_79 rfl rfl ?_
      refine r_iload_n X 3 dX6_readThing_80 rfl rfl ?_
      refine r_iast X ho2.1 (ho2.2 66 (by decide)) rfl rfl rfl (by decide) dX6_readThing_81 h (fun h => ?_)
      refine r_let h (fun σ3 eσ3 h => ?_)
      refine r_aload_n X 0 dX6_readThing_82 rfl rfl ?_
      have hk4 : oc σ3 (a0) 5 := by rw [eσ3]; exact ho2
      refine r_getA (kf := 67) X hk4.1 rfl (by decide) (by decide) (Or.inl q1308) dX6_readThing_83 ?_
      refine r_iload_n X 1 dX6_readThing_86 rfl rfl ?_
      refine r_iload X 4 dX6_readThing_87 rfl ?_
      refine r_iast X hk4.1 (hk4.2 67 (by decide)) rfl rfl rfl (by decide) dX6_readThing_89 h (fun h => ?_)
      refine r_let h (fun σ5 eσ5 h => ?_)
      refine r_aload_n X 0 dX6_readThing_90 rfl rfl ?_
      have hk6 : oc σ5 (a0) 5 := by rw [eσ5]; exact hk4
      refine r_getA (kf := 68) X hk6.1 rfl (by decide) (by decide) (Or.inl q1309) dX6_readThing_91 ?_
      refine r_iload_n X 1 dX6_readThing_94 rfl rfl ?_
      refine r_iload X 5 dX6_readThing_95 rfl ?_
      refine r_iast X hk6.1 (hk6.2 68 (by decide)) rfl rfl rfl (by decide) dX6_readThing_97 h (fun h => ?_)
      refine r_let h (fun σ7 eσ7 h => ?_)
      cases h
      exact r_vret X hr dX6_readThing_98
  refine r_iconst X dX6_readThing_0 ?_
  refine r_istore_n X dX6_readThing_1 rfl (hL 3 (by decide)) (lv' := [(3, iv ((-1))), (0, .ref (a0)), (1, iv (x1)), (2, iv (x2))]) rfl ?_
  refine r_iconst X dX6_readThing_2 ?_
  refine r_istore X dX6_readThing_3 (hL 4 (by decide)) (lv' := [(4, iv (0)), (3, iv ((-1))), (0, .ref (a0)), (1, iv (x1)), (2, iv (x2))]) rfl ?_
  refine r_iconst X dX6_readThing_5 ?_
  refine r_istore X dX6_readThing_6 (hL 5 (by decide)) (lv' := [(5, iv (0)), (4, iv (0)), (3, iv ((-1))), (0, .ref (a0)), (1, iv (x1)), (2, iv (x2))]) rfl ?_
  refine r_aload_n X 3 dX6_readThing_8 rfl rfl ?_
  obtain ⟨r9, σ10, h8, h⟩ := bd2_some h
  refine r_cV (Wd := 0) X (fun l D sz => w_X6_look l D sz h8) ho0.1 rfl q1488 qs47 q1486 q109 q1489 hy_X6_look rfl dX6_readThing_9 rfl rfl (Nat.le_of_ble_eq_true rfl) ⟨Nat.le_of_ble_eq_true rfl, Nat.le_of_ble_eq_true rfl⟩ ⟨Nat.le_of_ble_eq_true rfl, Nat.le_of_ble_eq_true rfl⟩ ?_
  refine r_bipush X dX6_readThing_12 (by decide) ?_
  refine r_icmp_ne (tgt := 30) X dX6_readThing_14 (by decide) h (fun c11 h => ?_) (fun c11 h => ?_)
  · refine r_aload_n X 3 dX6_readThing_17 rfl rfl ?_
    refine r_dup X dX6_readThing_18 rfl ?_
    obtain ⟨ho12, h⟩ := cO_some h
    refine r_getI (kf := 3) X ho12.1 rfl (by decide) rfl (Or.inl q1244) dX6_readThing_19 ?_
    refine r_iconst X dX6_readThing_22 ?_
    refine r_iadd X dX6_readThing_23 ?_
    refine r_putI (kf := 3) X ho12.1 rfl (by decide) rfl rfl (Or.inl q1244) dX6_readThing_24 rfl ?_
    refine r_let h (fun σ13 eσ13 h => ?_)
    refine r_goto (tgt := 71) X dX6_readThing_27 (by decide) ?_
    exact V.sub [3, 4, 5, 2, 1, 0] rfl (J71 ((-1)) (0) (0) (σ13) h)
  · refine r_aload_n X 3 dX6_readThing_30 rfl rfl ?_
    refine r_iconst X dX6_readThing_31 ?_
    refine r_sipush X dX6_readThing_32 (by decide) ?_
    obtain ⟨ho15, h⟩ := cO_some h
    obtain ⟨r16, σ17, h14, h⟩ := bd2_some h
    refine r_cV (Wd := 0) X (fun l D sz => w_X6_plain l D sz h14) ho15.1 rfl q1480 qs45 q1478 q109 q1481 hy_X6_plain rfl dX6_readThing_35 rfl rfl (Nat.le_of_ble_eq_true rfl) ⟨Nat.le_of_ble_eq_true rfl, Nat.le_of_ble_eq_true rfl⟩ ⟨Nat.le_of_ble_eq_true rfl, Nat.le_of_ble_eq_true rfl⟩ ?_
    refine r_istore_n X dX6_readThing_38 rfl (hL 3 (by decide)) (lv' := [(3, iv (r16)), (5, iv (0)), (4, iv (0)), (0, .ref (a0)), (1, iv (x1)), (2, iv (x2))]) rfl ?_
    refine r_aload_n X 3 dX6_readThing_39 rfl rfl ?_
    refine r_bipush X dX6_readThing_40 (by decide) ?_
    obtain ⟨ho19, h⟩ := cO_some h
    obtain ⟨σ20, h18, h⟩ := bd_some h
    refine r_cV (Wd := 0) X (fun l D sz => w_X6_sign l D sz h18) ho19.1 rfl q1514 qs52 q1512 q109 q1515 hy_X6_sign rfl dX6_readThing_42 rfl rfl (Nat.le_of_ble_eq_true rfl) ⟨Nat.le_of_ble_eq_true rfl, Nat.le_of_ble_eq_true rfl⟩ ⟨Nat.le_of_ble_eq_true rfl, Nat.le_of_ble_eq_true rfl⟩ ?_
    refine r_aload_n X 3 dX6_readThing_45 rfl rfl ?_
    refine r_iconst X dX6_readThing_46 ?_
    refine r_sipush X dX6_readThing_47 (by decide) ?_
    obtain ⟨ho22, h⟩ := cO_some h
    obtain ⟨r23, σ24, h21, h⟩ := bd2_some h
    refine r_cV (Wd := 0) X (fun l D sz => w_X6_plain l D sz h21) ho22.1 rfl q1480 qs45 q1478 q109 q1481 hy_X6_plain rfl dX6_readThing_50 rfl rfl (Nat.le_of_ble_eq_true rfl) ⟨Nat.le_of_ble_eq_true rfl, Nat.le_of_ble_eq_true rfl⟩ ⟨Nat.le_of_ble_eq_true rfl, Nat.le_of_ble_eq_true rfl⟩ ?_
    refine r_istore X dX6_readThing_53 (hL 4 (by decide)) (lv' := [(4, iv (r23)), (3, iv (r16)), (5, iv (0)), (0, .ref (a0)), (1, iv (x1)), (2, iv (x2))]) rfl ?_
    refine r_aload_n X 3 dX6_readThing_55 rfl rfl ?_
    refine r_bipush X dX6_readThing_56 (by decide) ?_
    obtain ⟨ho26, h⟩ := cO_some h
    obtain ⟨σ27, h25, h⟩ := bd_some h
    refine r_cV (Wd := 0) X (fun l D sz => w_X6_sign l D sz h25) ho26.1 rfl q1514 qs52 q1512 q109 q1515 hy_X6_sign rfl dX6_readThing_58 rfl rfl (Nat.le_of_ble_eq_true rfl) ⟨Nat.le_of_ble_eq_true rfl, Nat.le_of_ble_eq_true rfl⟩ ⟨Nat.le_of_ble_eq_true rfl, Nat.le_of_ble_eq_true rfl⟩ ?_
    refine r_aload_n X 3 dX6_readThing_61 rfl rfl ?_
    refine r_iconst X dX6_readThing_62 ?_
    refine r_sipush X dX6_readThing_63 (by decide) ?_
    obtain ⟨ho29, h⟩ := cO_some h
    obtain ⟨r30, σ31, h28, h⟩ := bd2_some h
    refine r_cV (Wd := 0) X (fun l D sz => w_X6_plain l D sz h28) ho29.1 rfl q1480 qs45 q1478 q109 q1481 hy_X6_plain rfl dX6_readThing_66 rfl rfl (Nat.le_of_ble_eq_true rfl) ⟨Nat.le_of_ble_eq_true rfl, Nat.le_of_ble_eq_true rfl⟩ ⟨Nat.le_of_ble_eq_true rfl, Nat.le_of_ble_eq_true rfl⟩ ?_
    refine r_istore X dX6_readThing_69 (hL 5 (by decide)) (lv' := [(5, iv (r30)), (4, iv (r23)), (3, iv (r16)), (0, .ref (a0)), (1, iv (x1)), (2, iv (x2))]) rfl ?_
    exact V.sub [3, 4, 5, 2, 1, 0] rfl (J71 (r16) (r23) (r30) (σ31) h)
theorem hy_X6_readRow : yX6_readRow.cls ≠ "java/lang/invoke/MethodHandle" ∧ yX6_readRow.cls ≠ "java/lang/invoke/VarHandle" ∧ (parseMethodDescriptor yX6_readRow.desc).map (fun d => d.parameters.length) = some 1 := by decide +kernel
set_option maxHeartbeats 4000000 in
theorem w_X6_readRow (l : Launch) (D : DD) (sz : Nat) {σ : St} {a0 : Nat} {x1 : Int} {w : Int × St} (h : f_X6_readRow σ a0 x1 = some w) : Mt l yX6_readRow cX6_readRow 4 (some FieldType.int) ({ frames := 5, cells := 0, slots := 0, locals := 72 } : Room) D sz σ [.ref a0, iv (x1)] (.returned (some (iv w.1))) (w.2) 0 0 := by
  refine Mt.of (by decide +kernel) (Nat.le_of_ble_eq_true rfl) ?_
  intro Γ X hr hnl hini hnoh
  have X : Cx Γ cX6_readRow "DayBoyModel" _ := X
  have hL : ∀ i, i < 4 → i < nLc Γ := fun i q => by rw [hnl]; exact q
  show V Γ σ 0 0 0 [(0, .ref (a0)), (1, iv (x1))] []
  unfold f_X6_readRow at h
  obtain ⟨ho0, h⟩ := cO_some h
  have J112 : ∀ (t0_j112 : Int) (t1_j112 : Nat) (σ_j112 : St), f_X6_readRow_j112 (a0) t0_j112 t1_j112 σ_j112 = some w → V Γ σ_j112 0 0 112 [(0, .ref (a0))] [iv (t0_j112), .ref (t1_j112)] := by
    intro t0_j112 t1_j112 σ_j112 h
    unfold f_X6_readRow_j112 at h
    obtain ⟨ho1, h⟩ := cO_some h
    refine r_putI (kf := 69) X ho1.1 rfl (by decide) rfl rfl (Or.inl q1310) dX6_readRow_112 rfl ?_
    refine r_let h (fun σ2 eσ2 h => ?_)
    refine r_aload_n X 0 dX6_readRow_115 rfl rfl ?_
    obtain ⟨ho3, h⟩ := cO_some h
    refine r_getI (kf := 4) X ho3.1 rfl (by decide) rfl (Or.inl q1245) dX6_readRow_116 ?_
    cases h
    exact r_iret X hr dX6_readRow_119
  have J99 : ∀ (v2_j99 : Int) (σ_j99 : St), f_X6_readRow_j99 (a0) (x1) v2_j99 σ_j99 = some w → V Γ σ_j99 0 0 99 [(0, .ref (a0)), (1, iv (x1)), (2, iv (v2_j99))] [] := by
    intro v2_j99 σ_j99 h
    unfold f_X6_readRow_j99 at h
    refine r_aload_n X 0 dX6_readRow_99 rfl rfl ?_
    refine r_iload_n X 1 dX6_readRow_100 rfl rfl ?_
    refine r_if_eq (tgt := 108) X dX6_readRow_101 (by decide) h (fun c4 h => ?_) (fun c4 h => ?_)
    · refine r_aload_n X 0 dX6_readRow_108 rfl rfl ?_
      obtain ⟨ho5, h⟩ := cO_some h
      refine r_getI (kf := 69) X ho5.1 rfl (by decide) rfl (Or.inl q1310) dX6_readRow_109 ?_
      exact V.sub [0] rfl (J112 ((gI (σ_j99) (a0) 69 0)) (a0) (σ_j99) h)
    · refine r_iload_n X 2 dX6_readRow_104 rfl rfl ?_
      refine r_goto (tgt := 112) X dX6_readRow_105 (by decide) ?_
      exact V.sub [0] rfl (J112 (v2_j99) (a0) (σ_j99) h)
  have J79 : ∀ (v2_j79 : Int) (σ_j79 : St), f_X6_readRow_j79 (a0) (x1) v2_j79 σ_j79 = some w → V Γ σ_j79 0 0 79 [(0, .ref (a0)), (1, iv (x1)), (2, iv (v2_j79))] [] := by
    intro v2_j79 σ_j79 h
    unfold f_X6_readRow_j79 at h
    refine r_aload_n X 0 dX6_readRow_79 rfl rfl ?_
    obtain ⟨ho6, h⟩ := cO_some h
    refine r_getI (kf := 4) X ho6.1 rfl (by decide) rfl (Or.inl q1245) dX6_readRow_80 ?_
    refine r_iconst X dX6_readRow_83 ?_
    refine r_icmp_ne (tgt := 99) X dX6_readRow_84 (by decide) h (fun c7 h => ?_) (fun c7 h => ?_)
    · refine r_aload_n X 0 dX6_readRow_87 rfl rfl ?_
      obtain ⟨r9, σ10, h8, h⟩ := bd2_some h
      refine r_cV (Wd := 0) X (fun l D sz => w_X6_look l D sz h8) ho6.1 rfl q1488 qs47 q1486 q109 q1489 hy_X6_look rfl dX6_readRow_88 rfl rfl (Nat.le_of_ble_eq_true rfl) ⟨Nat.le_of_ble_eq_true rfl, Nat.le_of_ble_eq_true rfl⟩ ⟨Nat.le_of_ble_eq_true rfl, Nat.le_of_ble_eq_true rfl⟩ ?_
      refine r_iconst X dX6_readRow_91 ?_
      refine r_icmp_eq (tgt := 99) X dX6_readRow_92 (by decide) h (fun c11 h => ?_) (fun c11 h => ?_)
      · exact V.sub [0, 1, 2] rfl (J99 (v2_j79) (σ10) h)
      · refine r_aload_n X 0 dX6_readRow_95 rfl rfl ?_
        obtain ⟨ho13, h⟩ := cO_some h
        obtain ⟨σ14, h12, h⟩ := bd_some h
        refine r_cV (Wd := 0) X (fun l D sz => w_X6_bad l D sz h12) ho13.1 rfl q1499 qs49 q1497 q109 q1500 hy_X6_bad rfl dX6_readRow_96 rfl rfl (Nat.le_of_ble_eq_true rfl) ⟨Nat.le_of_ble_eq_true rfl, Nat.le_of_ble_eq_true rfl⟩ ⟨Nat.le_of_ble_eq_true rfl, Nat.le_of_ble_eq_true rfl⟩ ?_
        exact V.sub [0, 1, 2] rfl (J99 (v2_j79) (σ14) h)
    · exact V.sub [0, 1, 2] rfl (J99 (v2_j79) (σ_j79) h)
  refine r_aload_n X 0 dX6_readRow_0 rfl rfl ?_
  refine r_iconst X dX6_readRow_1 ?_
  refine r_putI (kf := 3) X ho0.1 rfl (by decide) rfl rfl (Or.inl q1244) dX6_readRow_2 rfl ?_
  refine r_let h (fun σ15 eσ15 h => ?_)
  refine r_aload_n X 0 dX6_readRow_5 rfl rfl ?_
  refine r_iconst X dX6_readRow_6 ?_
  have hk16 : oc σ15 (a0) 5 := by rw [eσ15]; exact ho0
  refine r_putI (kf := 4) X hk16.1 rfl (by decide) rfl rfl (Or.inl q1245) dX6_readRow_7 rfl ?_
  refine r_let h (fun σ17 eσ17 h => ?_)
  refine r_iconst X dX6_readRow_10 ?_
  refine r_istore_n X dX6_readRow_11 rfl (hL 2 (by decide)) (lv' := [(2, iv (0)), (0, .ref (a0)), (1, iv (x1))]) rfl ?_
  refine r_iconst X dX6_readRow_12 ?_
  refine r_istore_n X dX6_readRow_13 rfl (hL 3 (by decide)) (lv' := [(3, iv (1)), (2, iv (0)), (0, .ref (a0)), (1, iv (x1))]) rfl ?_
  have L14 : ∀ s : Int × Int × St, lp (fun s => f_X6_readRow_b14 (a0) (x1) s.1 s.2.1 s.2.2) s = some w → V Γ (s.2.2) 0 0 14 [(0, .ref (a0)), (1, iv (x1)), (2, iv (s.1)), (3, iv (s.2.1))] [] := by
    refine lp_rule (P := fun s : Int × Int × St => V Γ (s.2.2) 0 0 14 [(0, .ref (a0)), (1, iv (x1)), (2, iv (s.1)), (3, iv (s.2.1))] []) ?_
    intro s z1 h ihb1 ihe1
    obtain ⟨v2_1, v3_1, σ_1⟩ := s
    have h : f_X6_readRow_b14 (a0) (x1) v2_1 v3_1 σ_1 = some z1 := h
    unfold f_X6_readRow_b14 at h
    show V Γ σ_1 0 0 14 [(0, .ref (a0)), (1, iv (x1)), (2, iv (v2_1)), (3, iv (v3_1))] []
    have J72 : ∀ (v2_j72 : Int) (v3_j72 : Int) (t0_j72 : Int) (t1_j72 : Int) (t2_j72 : Nat) (σ_j72 : St), f_X6_readRow_j72 (a0) (x1) v2_j72 v3_j72 t0_j72 t1_j72 t2_j72 σ_j72 = some z1 → V Γ σ_j72 0 0 72 [(0, .ref (a0)), (1, iv (x1)), (2, iv (v2_j72)), (3, iv (v3_j72))] [iv (t0_j72), iv (t1_j72), .ref (t2_j72)] := by
      intro v2_j72 v3_j72 t0_j72 t1_j72 t2_j72 σ_j72 h
      unfold f_X6_readRow_j72 at h
      refine r_iadd X dX6_readRow_72 ?_
      obtain ⟨ho18, h⟩ := cO_some h
      refine r_putI (kf := 3) X ho18.1 rfl (by decide) rfl rfl (Or.inl q1244) dX6_readRow_73 rfl ?_
      refine r_let h (fun σ19 eσ19 h => ?_)
      refine r_goto (tgt := 14) X dX6_readRow_76 (by decide) ?_
      exact V.sub [0, 1, 2, 3] rfl (ihb1 _ (Option.some.inj h).symm)
    have J57 : ∀ (v2_j57 : Int) (t0_j57 : Int) (σ_j57 : St), f_X6_readRow_j57 (a0) (x1) v2_j57 t0_j57 σ_j57 = some z1 → V Γ σ_j57 0 0 57 [(0, .ref (a0)), (1, iv (x1)), (2, iv (v2_j57))] [iv (t0_j57)] := by
      intro v2_j57 t0_j57 σ_j57 h
      unfold f_X6_readRow_j57 at h
      refine r_istore_n X dX6_readRow_57 rfl (hL 3 (by decide)) (lv' := [(3, iv (t0_j57)), (0, .ref (a0)), (1, iv (x1)), (2, iv (v2_j57))]) rfl ?_
      refine r_aload_n X 1 dX6_readRow_58 rfl rfl ?_
      refine r_dup X dX6_readRow_59 rfl ?_
      obtain ⟨ho20, h⟩ := cO_some h
      refine r_getI (kf := 3) X ho20.1 rfl (by decide) rfl (Or.inl q1244) dX6_readRow_60 ?_
      refine r_iload_n X 0 dX6_readRow_63 rfl rfl ?_
      refine r_if_eq (tgt := 71) X dX6_readRow_64 (by decide) h (fun c21 h => ?_) (fun c21 h => ?_)
      · refine r_iconst X dX6_readRow_71 ?_
        exact V.sub [1, 2, 3, 0] rfl (J72 (v2_j57) (t0_j57) (0) ((gI (σ_j57) (a0) 3 0)) (a0) (σ_j57) h)
      · refine r_iconst X dX6_readRow_67 ?_
        refine r_goto (tgt := 72) X dX6_readRow_68 (by decide) ?_
        exact V.sub [1, 2, 3, 0] rfl (J72 (v2_j57) (t0_j57) (1) ((gI (σ_j57) (a0) 3 0)) (a0) (σ_j57) h)
    have J56 : ∀ (v2_j56 : Int) (σ_j56 : St), f_X6_readRow_j56 (a0) (x1) v2_j56 σ_j56 = some z1 → V Γ σ_j56 0 0 56 [(0, .ref (a0)), (1, iv (x1)), (2, iv (v2_j56))] [] := by
      intro v2_j56 σ_j56 h
      unfold f_X6_readRow_j56 at h
      refine r_iconst X dX6_readRow_56 ?_
      exact V.sub [0, 1, 2] rfl (J57 (v2_j56) (0) (σ_j56) h)
    refine r_iload_n X 3 dX6_readRow_14 rfl rfl ?_
    refine r_if_eq (tgt := 79) X dX6_readRow_15 (by decide) h (fun c22 h => ?_) (fun c22 h => ?_)
    · have h := ex_some h ihe1
      exact V.sub [0, 1, 2] rfl (J79 (v2_1) (σ_1) h)
    · refine r_aload_n X 0 dX6_readRow_18 rfl rfl ?_
      obtain ⟨ho23, h⟩ := cO_some h
      refine r_getI (kf := 4) X ho23.1 rfl (by decide) rfl (Or.inl q1245) dX6_readRow_19 ?_
      refine r_iconst X dX6_readRow_22 ?_
      refine r_icmp_ne (tgt := 79) X dX6_readRow_23 (by decide) h (fun c24 h => ?_) (fun c24 h => ?_)
      · refine r_aload_n X 0 dX6_readRow_26 rfl rfl ?_
        refine r_iload_n X 2 dX6_readRow_27 rfl rfl ?_
        refine r_iload_n X 1 dX6_readRow_28 rfl rfl ?_
        obtain ⟨σ26, h25, h⟩ := bd_some h
        refine r_cV (Wd := 0) X (fun l D sz => w_X6_readThing l D sz h25) ho23.1 rfl q1575 qs66 q1573 q109 q1576 hy_X6_readThing rfl dX6_readRow_29 rfl rfl (Nat.le_of_ble_eq_true rfl) ⟨Nat.le_of_ble_eq_true rfl, Nat.le_of_ble_eq_true rfl⟩ ⟨Nat.le_of_ble_eq_true rfl, Nat.le_of_ble_eq_true rfl⟩ ?_
        refine r_iinc X 2 dX6_readRow_32 rfl (hL 2 (by decide)) (lv' := [(2, iv ((v2_1 + 1))), (0, .ref (a0)), (1, iv (x1)), (3, iv (v3_1))]) rfl ?_
        refine r_aload_n X 1 dX6_readRow_35 rfl rfl ?_
        obtain ⟨ho27, h⟩ := cO_some h
        refine r_getI (kf := 4) X ho27.1 rfl (by decide) rfl (Or.inl q1245) dX6_readRow_36 ?_
        refine r_iconst X dX6_readRow_39 ?_
        refine r_icmp_ne (tgt := 56) X dX6_readRow_40 (by decide) h (fun c28 h => ?_) (fun c28 h => ?_)
        · refine r_aload_n X 1 dX6_readRow_43 rfl rfl ?_
          obtain ⟨r30, σ31, h29, h⟩ := bd2_some h
          refine r_cV (Wd := 0) X (fun l D sz => w_X6_look l D sz h29) ho27.1 rfl q1488 qs47 q1486 q109 q1489 hy_X6_look rfl dX6_readRow_44 rfl rfl (Nat.le_of_ble_eq_true rfl) ⟨Nat.le_of_ble_eq_true rfl, Nat.le_of_ble_eq_true rfl⟩ ⟨Nat.le_of_ble_eq_true rfl, Nat.le_of_ble_eq_true rfl⟩ ?_
          refine r_bipush X dX6_readRow_47 (by decide) ?_
          refine r_icmp_ne (tgt := 56) X dX6_readRow_49 (by decide) h (fun c32 h => ?_) (fun c32 h => ?_)
          · refine r_iconst X dX6_readRow_52 ?_
            refine r_goto (tgt := 57) X dX6_readRow_53 (by decide) ?_
            exact V.sub [1, 2, 0] rfl (J57 ((v2_1 + 1)) (1) (σ31) h)
          · exact V.sub [1, 2, 0] rfl (J56 ((v2_1 + 1)) (σ31) h)
        · exact V.sub [1, 2, 0] rfl (J56 ((v2_1 + 1)) (σ26) h)
      · have h := ex_some h ihe1
        exact V.sub [0, 1, 2] rfl (J79 (v2_1) (σ_1) h)
  exact V.sub [2, 3, 1, 0] rfl (L14 (0, 1, σ17) h)
theorem hy_X6_fault : yX6_fault.cls ≠ "java/lang/invoke/MethodHandle" ∧ yX6_fault.cls ≠ "java/lang/invoke/VarHandle" ∧ (parseMethodDescriptor yX6_fault.desc).map (fun d => d.parameters.length) = some 1 := by decide +kernel
set_option maxHeartbeats 4000000 in
theorem w_X6_fault (l : Launch) (D : DD) (sz : Nat) {σ : St} {a0 : Nat} {x1 : Int} {w : Int × St} (h : f_X6_fault σ a0 x1 = some w) : Mt l yX6_fault cX6_fault 2 (some FieldType.int) ({ frames := 7, cells := 0, slots := 0, locals := 103 } : Room) D sz σ [.ref a0, iv (x1)] (.returned (some (iv w.1))) (w.2) 0 0 := by
  refine Mt.of (by decide +kernel) (Nat.le_of_ble_eq_true rfl) ?_
  intro Γ X hr hnl hini hnoh
  have X : Cx Γ cX6_fault "DayBoyModel" _ := X
  have hL : ∀ i, i < 2 → i < nLc Γ := fun i q => by rw [hnl]; exact q
  show V Γ σ 0 0 0 [(0, .ref (a0)), (1, iv (x1))] []
  unfold f_X6_fault at h
  obtain ⟨ho0, h⟩ := cO_some h
  refine r_iload_n X 1 dX6_fault_0 rfl rfl ?_
  refine r_if_ne (tgt := 13) X dX6_fault_1 (by decide) h (fun c1 h => ?_) (fun c1 h => ?_)
  · refine r_aload_n X 0 dX6_fault_4 rfl rfl ?_
    refine r_bipush X dX6_fault_5 (by decide) ?_
    obtain ⟨r3, σ4, h2, h⟩ := bd2_some h
    refine r_cV (Wd := 0) X (fun l D sz => w_X6_readCalendar l D sz h2) ho0.1 rfl q1476 qs44 q1474 q109 q1477 hy_X6_readCalendar rfl dX6_fault_7 rfl rfl (Nat.le_of_ble_eq_true rfl) ⟨Nat.le_of_ble_eq_true rfl, Nat.le_of_ble_eq_true rfl⟩ ⟨Nat.le_of_ble_eq_true rfl, Nat.le_of_ble_eq_true rfl⟩ ?_
    refine r_goto (tgt := 42) X dX6_fault_10 (by decide) ?_
    cases h
    exact r_iret X hr dX6_fault_42
  · refine r_iload_n X 1 dX6_fault_13 rfl rfl ?_
    refine r_iconst X dX6_fault_14 ?_
    refine r_icmp_ne (tgt := 27) X dX6_fault_15 (by decide) h (fun c5 h => ?_) (fun c5 h => ?_)
    · refine r_aload_n X 0 dX6_fault_18 rfl rfl ?_
      refine r_bipush X dX6_fault_19 (by decide) ?_
      obtain ⟨r7, σ8, h6, h⟩ := bd2_some h
      refine r_cV (Wd := 0) X (fun l D sz => w_X6_readHead l D sz h6) ho0.1 rfl q1550 qs60 q1548 q109 q1551 hy_X6_readHead rfl dX6_fault_21 rfl rfl (Nat.le_of_ble_eq_true rfl) ⟨Nat.le_of_ble_eq_true rfl, Nat.le_of_ble_eq_true rfl⟩ ⟨Nat.le_of_ble_eq_true rfl, Nat.le_of_ble_eq_true rfl⟩ ?_
      refine r_goto (tgt := 42) X dX6_fault_24 (by decide) ?_
      cases h
      exact r_iret X hr dX6_fault_42
    · refine r_iload_n X 1 dX6_fault_27 rfl rfl ?_
      refine r_iconst X dX6_fault_28 ?_
      refine r_icmp_ne (tgt := 40) X dX6_fault_29 (by decide) h (fun c9 h => ?_) (fun c9 h => ?_)
      · refine r_aload_n X 0 dX6_fault_32 rfl rfl ?_
        refine r_iconst X dX6_fault_33 ?_
        obtain ⟨r11, σ12, h10, h⟩ := bd2_some h
        refine r_cV (Wd := 0) X (fun l D sz => w_X6_readRow l D sz h10) ho0.1 rfl q1571 qs65 q1569 q109 q1572 hy_X6_readRow rfl dX6_fault_34 rfl rfl (Nat.le_of_ble_eq_true rfl) ⟨Nat.le_of_ble_eq_true rfl, Nat.le_of_ble_eq_true rfl⟩ ⟨Nat.le_of_ble_eq_true rfl, Nat.le_of_ble_eq_true rfl⟩ ?_
        refine r_goto (tgt := 42) X dX6_fault_37 (by decide) ?_
        cases h
        exact r_iret X hr dX6_fault_42
      · refine r_bipush X dX6_fault_40 (by decide) ?_
        cases h
        exact r_iret X hr dX6_fault_42
theorem hy_X6_takeRow : yX6_takeRow.cls ≠ "java/lang/invoke/MethodHandle" ∧ yX6_takeRow.cls ≠ "java/lang/invoke/VarHandle" ∧ (parseMethodDescriptor yX6_takeRow.desc).map (fun d => d.parameters.length) = some 0 := by decide +kernel
set_option maxHeartbeats 4000000 in
theorem w_X6_takeRow (l : Launch) (D : DD) (sz : Nat) {σ : St} {a0 : Nat} {w : Int × St} (h : f_X6_takeRow σ a0 = some w) : Mt l yX6_takeRow cX6_takeRow 1 (some FieldType.int) ({ frames := 6, cells := 0, slots := 0, locals := 87 } : Room) D sz σ [.ref a0] (.returned (some (iv w.1))) (w.2) 0 0 := by
  refine Mt.of (by decide +kernel) (Nat.le_of_ble_eq_true rfl) ?_
  intro Γ X hr hnl hini hnoh
  have X : Cx Γ cX6_takeRow "DayBoyModel" _ := X
  have hL : ∀ i, i < 1 → i < nLc Γ := fun i q => by rw [hnl]; exact q
  show V Γ σ 0 0 0 [(0, .ref (a0))] []
  unfold f_X6_takeRow at h
  obtain ⟨ho0, h⟩ := cO_some h
  refine r_aload_n X 0 dX6_takeRow_0 rfl rfl ?_
  refine r_iconst X dX6_takeRow_1 ?_
  obtain ⟨r2, σ3, h1, h⟩ := bd2_some h
  refine r_cV (Wd := 0) X (fun l D sz => w_X6_readRow l D sz h1) ho0.1 rfl q1571 qs65 q1569 q109 q1572 hy_X6_readRow rfl dX6_takeRow_2 rfl rfl (Nat.le_of_ble_eq_true rfl) ⟨Nat.le_of_ble_eq_true rfl, Nat.le_of_ble_eq_true rfl⟩ ⟨Nat.le_of_ble_eq_true rfl, Nat.le_of_ble_eq_true rfl⟩ ?_
  refine r_iconst X dX6_takeRow_5 ?_
  refine r_icmp_eq (tgt := 11) X dX6_takeRow_6 (by decide) h (fun c4 h => ?_) (fun c4 h => ?_)
  · refine r_aload_n X 0 dX6_takeRow_11 rfl rfl ?_
    refine r_iconst X dX6_takeRow_12 ?_
    obtain ⟨ho6, h⟩ := cO_some h
    obtain ⟨r7, σ8, h5, h⟩ := bd2_some h
    refine r_cV (Wd := 0) X (fun l D sz => w_X6_readRow l D sz h5) ho6.1 rfl q1571 qs65 q1569 q109 q1572 hy_X6_readRow rfl dX6_takeRow_13 rfl rfl (Nat.le_of_ble_eq_true rfl) ⟨Nat.le_of_ble_eq_true rfl, Nat.le_of_ble_eq_true rfl⟩ ⟨Nat.le_of_ble_eq_true rfl, Nat.le_of_ble_eq_true rfl⟩ ?_
    refine r_pop X dX6_takeRow_16 rfl ?_
    refine r_aload_n X 0 dX6_takeRow_17 rfl rfl ?_
    refine r_iconst X dX6_takeRow_18 ?_
    obtain ⟨ho9, h⟩ := cO_some h
    refine r_putI (kf := 2) X ho9.1 rfl (by decide) rfl rfl (Or.inl q1243) dX6_takeRow_19 rfl ?_
    refine r_let h (fun σ10 eσ10 h => ?_)
    refine r_aload_n X 0 dX6_takeRow_22 rfl rfl ?_
    have hk11 : oc σ10 (a0) 5 := by rw [eσ10]; exact ho9
    refine r_getI (kf := 69) X hk11.1 rfl (by decide) rfl (Or.inl q1310) dX6_takeRow_23 ?_
    cases h
    exact r_iret X hr dX6_takeRow_26
  · refine r_iconst X dX6_takeRow_9 ?_
    cases h
    exact r_iret X hr dX6_takeRow_10
theorem hy_X6_knowsYear : yX6_knowsYear.cls ≠ "java/lang/invoke/MethodHandle" ∧ yX6_knowsYear.cls ≠ "java/lang/invoke/VarHandle" ∧ (parseMethodDescriptor yX6_knowsYear.desc).map (fun d => d.parameters.length) = some 2 := by decide +kernel
set_option maxHeartbeats 4000000 in
theorem w_X6_knowsYear (l : Launch) (D : DD) (sz : Nat) {σ : St} {a0 : Nat} {x1 : Int} {x2 : Int} {w : Int} (h : f_X6_knowsYear σ a0 x1 x2 = some w) : Mt l yX6_knowsYear cX6_knowsYear 4 (some FieldType.boolean) ({ frames := 1, cells := 0, slots := 0, locals := 14 } : Room) D sz σ [.ref a0, iv (x1), iv (x2)] (.returned (some (iv w))) (σ) 0 0 := by
  refine Mt.of (by decide +kernel) (Nat.le_of_ble_eq_true rfl) ?_
  intro Γ X hr hnl hini hnoh
  have X : Cx Γ cX6_knowsYear "DayBoyModel" _ := X
  have hL : ∀ i, i < 4 → i < nLc Γ := fun i q => by rw [hnl]; exact q
  show V Γ σ 0 0 0 [(0, .ref (a0)), (1, iv (x1)), (2, iv (x2))] []
  unfold f_X6_knowsYear at h
  obtain ⟨ho0, h⟩ := cO_some h
  refine r_iconst X dX6_knowsYear_0 ?_
  refine r_istore_n X dX6_knowsYear_1 rfl (hL 3 (by decide)) (lv' := [(3, iv (0)), (0, .ref (a0)), (1, iv (x1)), (2, iv (x2))]) rfl ?_
  have L2 : ∀ s : Int, lp (fun s => f_X6_knowsYear_b2 (σ) (a0) (x1) (x2) s) s = some w → V Γ (σ) 0 0 2 [(0, .ref (a0)), (1, iv (x1)), (2, iv (x2)), (3, iv (s))] [] := by
    refine lp_rule (P := fun s : Int => V Γ (σ) 0 0 2 [(0, .ref (a0)), (1, iv (x1)), (2, iv (x2)), (3, iv (s))] []) ?_
    intro s z1 h ihb1 ihe1
    obtain ⟨v3_1, es⟩ : ∃ q, q = s := ⟨s, rfl⟩
    subst es
    have h : f_X6_knowsYear_b2 (σ) (a0) (x1) (x2) v3_1 = some z1 := h
    unfold f_X6_knowsYear_b2 at h
    show V Γ σ 0 0 2 [(0, .ref (a0)), (1, iv (x1)), (2, iv (x2)), (3, iv (v3_1))] []
    refine r_iload_n X 3 dX6_knowsYear_2 rfl rfl ?_
    refine r_aload_n X 0 dX6_knowsYear_3 rfl rfl ?_
    refine r_getA (kf := 15) X ho0.1 rfl (by decide) (by decide) (Or.inl q1256) dX6_knowsYear_4 ?_
    refine r_iload_n X 1 dX6_knowsYear_7 rfl rfl ?_
    refine r_iald X ho0.1 (ho0.2 15 (by decide)) rfl rfl rfl (by decide) dX6_knowsYear_8 h (fun h => ?_)
    refine r_icmp_ge (tgt := 49) X dX6_knowsYear_9 (by decide) h (fun c1 h => ?_) (fun c1 h => ?_)
    · refine r_iload_n X 2 dX6_knowsYear_12 rfl rfl ?_
      refine r_aload_n X 0 dX6_knowsYear_13 rfl rfl ?_
      refine r_getA (kf := 16) X ho0.1 rfl (by decide) (by decide) (Or.inl q1257) dX6_knowsYear_14 ?_
      refine r_bipush X dX6_knowsYear_17 (by decide) ?_
      refine r_iload_n X 1 dX6_knowsYear_19 rfl rfl ?_
      refine r_imul X dX6_knowsYear_20 ?_
      refine r_iload_n X 3 dX6_knowsYear_21 rfl rfl ?_
      refine r_iadd X dX6_knowsYear_22 ?_
      refine r_iald X ho0.1 (ho0.2 16 (by decide)) rfl rfl rfl (by decide) dX6_knowsYear_23 h (fun h => ?_)
      refine r_aload_n X 0 dX6_knowsYear_24 rfl rfl ?_
      refine r_getA (kf := 17) X ho0.1 rfl (by decide) (by decide) (Or.inl q1258) dX6_knowsYear_25 ?_
      refine r_bipush X dX6_knowsYear_28 (by decide) ?_
      refine r_iload_n X 1 dX6_knowsYear_30 rfl rfl ?_
      refine r_imul X dX6_knowsYear_31 ?_
      refine r_iload_n X 3 dX6_knowsYear_32 rfl rfl ?_
      refine r_iadd X dX6_knowsYear_33 ?_
      refine r_iald X ho0.1 (ho0.2 17 (by decide)) rfl rfl rfl (by decide) dX6_knowsYear_34 h (fun h => ?_)
      obtain ⟨r3, h2, h⟩ := bd_some h
      refine r_cS (Wd := 0) X (fun l D sz => w_X6_in l D sz h2) q1502 q1501 q109 q1503 hy_X6_in rfl dX6_knowsYear_35 rfl rfl (Nat.le_of_ble_eq_true rfl) ⟨Nat.le_of_ble_eq_true rfl, Nat.le_of_ble_eq_true rfl⟩ ⟨Nat.le_of_ble_eq_true rfl, Nat.le_of_ble_eq_true rfl⟩ ?_
      refine r_if_eq (tgt := 43) X dX6_knowsYear_38 (by decide) h (fun c4 h => ?_) (fun c4 h => ?_)
      · refine r_iinc X 3 dX6_knowsYear_43 rfl (hL 3 (by decide)) (lv' := [(3, iv ((v3_1 + 1))), (0, .ref (a0)), (1, iv (x1)), (2, iv (x2))]) rfl ?_
        refine r_goto (tgt := 2) X dX6_knowsYear_46 (by decide) ?_
        exact V.sub [1, 2, 3, 0] rfl (ihb1 _ (Option.some.inj h).symm)
      · have h := ex_some h ihe1
        refine r_iconst X dX6_knowsYear_41 ?_
        cases h
        exact r_zret X hr (by decide) dX6_knowsYear_42
    · have h := ex_some h ihe1
      refine r_iconst X dX6_knowsYear_49 ?_
      cases h
      exact r_zret X hr (by decide) dX6_knowsYear_50
  exact V.sub [1, 2, 3, 0] rfl (L2 (0) h)
theorem hy_X6_push : yX6_push.cls ≠ "java/lang/invoke/MethodHandle" ∧ yX6_push.cls ≠ "java/lang/invoke/VarHandle" ∧ (parseMethodDescriptor yX6_push.desc).map (fun d => d.parameters.length) = some 1 := by decide +kernel
set_option maxHeartbeats 4000000 in
theorem w_X6_push (l : Launch) (D : DD) (sz : Nat) {σ : St} {a0 : Nat} {x1 : Int} {w : St} (h : f_X6_push σ a0 x1 = some w) : Mt l yX6_push cX6_push 2 none ({ frames := 0, cells := 0, slots := 0, locals := 0 } : Room) D sz σ [.ref a0, iv (x1)] (.returned none) (w) 0 0 := by
  refine Mt.of (by decide +kernel) (Nat.le_of_ble_eq_true rfl) ?_
  intro Γ X hr hnl hini hnoh
  have X : Cx Γ cX6_push "DayBoyModel" _ := X
  have hL : ∀ i, i < 2 → i < nLc Γ := fun i q => by rw [hnl]; exact q
  show V Γ σ 0 0 0 [(0, .ref (a0)), (1, iv (x1))] []
  unfold f_X6_push at h
  obtain ⟨ho0, h⟩ := cO_some h
  refine r_aload_n X 0 dX6_push_0 rfl rfl ?_
  refine r_getA (kf := 33) X ho0.1 rfl (by decide) (by decide) (Or.inl q1274) dX6_push_1 ?_
  refine r_iload_n X 1 dX6_push_4 rfl rfl ?_
  refine r_zald X ho0.1 (ho0.2 33 (by decide)) rfl rfl rfl (by decide) dX6_push_5 h (fun h => ?_)
  refine r_if_ne (tgt := 45) X dX6_push_6 (by decide) h (fun c1 h => ?_) (fun c1 h => ?_)
  · refine r_aload_n X 0 dX6_push_9 rfl rfl ?_
    refine r_getA (kf := 33) X ho0.1 rfl (by decide) (by decide) (Or.inl q1274) dX6_push_10 ?_
    refine r_iload_n X 1 dX6_push_13 rfl rfl ?_
    refine r_iconst X dX6_push_14 ?_
    refine r_zast X ho0.1 (ho0.2 33 (by decide)) rfl rfl rfl (by decide) dX6_push_15 h (fun h => ?_)
    refine r_let h (fun σ2 eσ2 h => ?_)
    refine r_aload_n X 0 dX6_push_16 rfl rfl ?_
    have hk3 : oc σ2 (a0) 5 := by rw [eσ2]; exact ho0
    refine r_getA (kf := 32) X hk3.1 rfl (by decide) (by decide) (Or.inl q1273) dX6_push_17 ?_
    refine r_aload_n X 0 dX6_push_20 rfl rfl ?_
    refine r_getI (kf := 34) X hk3.1 rfl (by decide) rfl (Or.inl q1275) dX6_push_21 ?_
    refine r_aload_n X 0 dX6_push_24 rfl rfl ?_
    refine r_getI (kf := 35) X hk3.1 rfl (by decide) rfl (Or.inl q1276) dX6_push_25 ?_
    refine r_iadd X dX6_push_28 ?_
    refine r_sipush X dX6_push_29 (by decide) ?_
    obtain ⟨c4, h⟩ := ck_some h
    refine r_irem X dX6_push_32 c4 (by decide) (by decide) ?_
    refine r_iload_n X 1 dX6_push_33 rfl rfl ?_
    refine r_iast X hk3.1 (hk3.2 32 (by decide)) rfl rfl rfl (by decide) dX6_push_34 h (fun h => ?_)
    refine r_let h (fun σ5 eσ5 h => ?_)
    refine r_aload_n X 0 dX6_push_35 rfl rfl ?_
    refine r_dup X dX6_push_36 rfl ?_
    have hk6 : oc σ5 (a0) 5 := by rw [eσ5]; exact hk3
    refine r_getI (kf := 35) X hk6.1 rfl (by decide) rfl (Or.inl q1276) dX6_push_37 ?_
    refine r_iconst X dX6_push_40 ?_
    refine r_iadd X dX6_push_41 ?_
    refine r_putI (kf := 35) X hk6.1 rfl (by decide) rfl rfl (Or.inl q1276) dX6_push_42 rfl ?_
    refine r_let h (fun σ7 eσ7 h => ?_)
    cases h
    exact r_vret X hr dX6_push_45
  · cases h
    exact r_vret X hr dX6_push_45
theorem hy_X6_touch : yX6_touch.cls ≠ "java/lang/invoke/MethodHandle" ∧ yX6_touch.cls ≠ "java/lang/invoke/VarHandle" ∧ (parseMethodDescriptor yX6_touch.desc).map (fun d => d.parameters.length) = some 4 := by decide +kernel
set_option maxHeartbeats 4000000 in
theorem w_X6_touch (l : Launch) (D : DD) (sz : Nat) {σ : St} {a0 : Nat} {x1 : Int} {x2 : Int} {x3 : Int} {x4 : Int} {w : St} (h : f_X6_touch σ a0 x1 x2 x3 x4 = some w) : Mt l yX6_touch cX6_touch 7 none ({ frames := 1, cells := 0, slots := 0, locals := 14 } : Room) D sz σ [.ref a0, iv (x1), iv (x2), iv (x3), iv (x4)] (.returned none) (w) 0 0 := by
  refine Mt.of (by decide +kernel) (Nat.le_of_ble_eq_true rfl) ?_
  intro Γ X hr hnl hini hnoh
  have X : Cx Γ cX6_touch "DayBoyModel" _ := X
  have hL : ∀ i, i < 7 → i < nLc Γ := fun i q => by rw [hnl]; exact q
  show V Γ σ 0 0 0 [(0, .ref (a0)), (1, iv (x1)), (2, iv (x2)), (3, iv (x3)), (4, iv (x4))] []
  unfold f_X6_touch at h
  obtain ⟨ho0, h⟩ := cO_some h
  refine r_iload_n X 3 dX6_touch_0 rfl rfl ?_
  refine r_iconst X dX6_touch_1 ?_
  refine r_sipush X dX6_touch_2 (by decide) ?_
  obtain ⟨r2, h1, h⟩ := bd_some h
  refine r_cS (Wd := 0) X (fun l D sz => w_X6_in l D sz h1) q1502 q1501 q109 q1503 hy_X6_in rfl dX6_touch_5 rfl rfl (Nat.le_of_ble_eq_true rfl) ⟨Nat.le_of_ble_eq_true rfl, Nat.le_of_ble_eq_true rfl⟩ ⟨Nat.le_of_ble_eq_true rfl, Nat.le_of_ble_eq_true rfl⟩ ?_
  refine r_if_ne (tgt := 12) X dX6_touch_8 (by decide) h (fun c3 h => ?_) (fun c3 h => ?_)
  · cases h
    exact r_vret X hr dX6_touch_11
  · refine r_aload_n X 0 dX6_touch_12 rfl rfl ?_
    refine r_getA (kf := 30) X ho0.1 rfl (by decide) (by decide) (Or.inl q1271) dX6_touch_13 ?_
    refine r_sipush X dX6_touch_16 (by decide) ?_
    refine r_iload_n X 1 dX6_touch_19 rfl rfl ?_
    refine r_imul X dX6_touch_20 ?_
    refine r_iload_n X 2 dX6_touch_21 rfl rfl ?_
    refine r_iadd X dX6_touch_22 ?_
    refine r_lald X ho0.1 (ho0.2 30 (by decide)) rfl rfl rfl (by decide) dX6_touch_23 h (fun h => ?_)
    refine r_ldc2 (z := 100000) X q1606 dX6_touch_24 rfl ?_
    refine r_iload X 4 dX6_touch_27 rfl ?_
    obtain ⟨c4, h⟩ := ck_some h
    refine r_i2l X dX6_touch_29 c4 ?_
    refine r_lmul X dX6_touch_30 ?_
    refine r_ladd X dX6_touch_31 ?_
    refine r_lconst (y := 1) X dX6_touch_32 rfl ?_
    refine r_ladd X dX6_touch_33 ?_
    refine r_lstore X dX6_touch_34 (hL 6 (by decide)) (lv' := [(5, jv ((((gJ (σ) (a0) 30 (((10001 * x1) + x2))) + (100000 * x4)) + 1))), (0, .ref (a0)), (1, iv (x1)), (2, iv (x2)), (3, iv (x3)), (4, iv (x4))]) rfl ?_
    refine r_lload X 0 dX6_touch_36 rfl ?_
    refine r_aload_n X 1 dX6_touch_38 rfl rfl ?_
    refine r_getA (kf := 30) X ho0.1 rfl (by decide) (by decide) (Or.inl q1271) dX6_touch_39 ?_
    refine r_sipush X dX6_touch_42 (by decide) ?_
    refine r_iload_n X 2 dX6_touch_45 rfl rfl ?_
    refine r_imul X dX6_touch_46 ?_
    refine r_iload_n X 4 dX6_touch_47 rfl rfl ?_
    refine r_iadd X dX6_touch_48 ?_
    refine r_lald X ho0.1 (ho0.2 30 (by decide)) rfl rfl rfl (by decide) dX6_touch_49 h (fun h => ?_)
    refine r_lcmp_ge (tgt := 73) X dX6_touch_50 dX6_touch_51 (by decide) h (fun c5 h => ?_) (fun c5 h => ?_)
    · refine r_aload_n X 1 dX6_touch_54 rfl rfl ?_
      refine r_getA (kf := 30) X ho0.1 rfl (by decide) (by decide) (Or.inl q1271) dX6_touch_55 ?_
      refine r_sipush X dX6_touch_58 (by decide) ?_
      refine r_iload_n X 2 dX6_touch_61 rfl rfl ?_
      refine r_imul X dX6_touch_62 ?_
      refine r_iload_n X 4 dX6_touch_63 rfl rfl ?_
      refine r_iadd X dX6_touch_64 ?_
      refine r_lload X 0 dX6_touch_65 rfl ?_
      refine r_last X ho0.1 (ho0.2 30 (by decide)) rfl rfl rfl (by decide) dX6_touch_67 h (fun h => ?_)
      refine r_let h (fun σ6 eσ6 h => ?_)
      refine r_aload_n X 1 dX6_touch_68 rfl rfl ?_
      refine r_iload_n X 4 dX6_touch_69 rfl rfl ?_
      have hk8 : oc σ6 (a0) 5 := by rw [eσ6]; exact ho0
      obtain ⟨σ9, h7, h⟩ := bd_some h
      refine r_cV (Wd := 0) X (fun l D sz => w_X6_push l D sz h7) hk8.1 rfl q1596 qs70 q1594 q109 q1597 hy_X6_push rfl dX6_touch_70 rfl rfl (Nat.le_of_ble_eq_true rfl) ⟨Nat.le_of_ble_eq_true rfl, Nat.le_of_ble_eq_true rfl⟩ ⟨Nat.le_of_ble_eq_true rfl, Nat.le_of_ble_eq_true rfl⟩ ?_
      cases h
      exact r_vret X hr dX6_touch_73
    · cases h
      exact r_vret X hr dX6_touch_73
theorem hy_X6_flood : yX6_flood.cls ≠ "java/lang/invoke/MethodHandle" ∧ yX6_flood.cls ≠ "java/lang/invoke/VarHandle" ∧ (parseMethodDescriptor yX6_flood.desc).map (fun d => d.parameters.length) = some 2 := by decide +kernel
set_option maxHeartbeats 4000000 in
theorem w_X6_flood (l : Launch) (D : DD) (sz : Nat) {σ : St} {a0 : Nat} {x1 : Int} {x2 : Int} {w : St} (h : f_X6_flood σ a0 x1 x2 = some w) : Mt l yX6_flood cX6_flood 5 none ({ frames := 2, cells := 0, slots := 0, locals := 32 } : Room) D sz σ [.ref a0, iv (x1), iv (x2)] (.returned none) (w) 0 0 := by
  refine Mt.of (by decide +kernel) (Nat.le_of_ble_eq_true rfl) ?_
  intro Γ X hr hnl hini hnoh
  have X : Cx Γ cX6_flood "DayBoyModel" _ := X
  have hL : ∀ i, i < 5 → i < nLc Γ := fun i q => by rw [hnl]; exact q
  show V Γ σ 0 0 0 [(0, .ref (a0)), (1, iv (x1)), (2, iv (x2))] []
  unfold f_X6_flood at h
  obtain ⟨ho0, h⟩ := cO_some h
  have L0 : ∀ s : St, lp (fun s => f_X6_flood_b0 (a0) (x1) (x2) s) s = some w → V Γ (s) 0 0 0 [(0, .ref (a0)), (1, iv (x1)), (2, iv (x2))] [] := by
    refine lp_rule (P := fun s : St => V Γ (s) 0 0 0 [(0, .ref (a0)), (1, iv (x1)), (2, iv (x2))] []) ?_
    intro s z1 h ihb1 ihe1
    obtain ⟨σ_1, es⟩ : ∃ q, q = s := ⟨s, rfl⟩
    subst es
    have h : f_X6_flood_b0 (a0) (x1) (x2) σ_1 = some z1 := h
    unfold f_X6_flood_b0 at h
    show V Γ σ_1 0 0 0 [(0, .ref (a0)), (1, iv (x1)), (2, iv (x2))] []
    refine r_aload_n X 0 dX6_flood_0 rfl rfl ?_
    obtain ⟨ho1, h⟩ := cO_some h
    refine r_getI (kf := 35) X ho1.1 rfl (by decide) rfl (Or.inl q1276) dX6_flood_1 ?_
    refine r_if_le (tgt := 135) X dX6_flood_4 (by decide) h (fun c2 h => ?_) (fun c2 h => ?_)
    · refine r_aload_n X 0 dX6_flood_7 rfl rfl ?_
      refine r_getA (kf := 32) X ho1.1 rfl (by decide) (by decide) (Or.inl q1273) dX6_flood_8 ?_
      refine r_aload_n X 0 dX6_flood_11 rfl rfl ?_
      refine r_getI (kf := 34) X ho1.1 rfl (by decide) rfl (Or.inl q1275) dX6_flood_12 ?_
      refine r_iald X ho1.1 (ho1.2 32 (by decide)) rfl rfl rfl (by decide) dX6_flood_15 h (fun h => ?_)
      refine r_istore_n X dX6_flood_16 rfl (hL 3 (by decide)) (lv' := [(3, iv ((gI (σ_1) (a0) 32 ((gI (σ_1) (a0) 34 0))))), (0, .ref (a0)), (1, iv (x1)), (2, iv (x2))]) rfl ?_
      refine r_aload_n X 1 dX6_flood_17 rfl rfl ?_
      refine r_aload_n X 1 dX6_flood_18 rfl rfl ?_
      refine r_getI (kf := 34) X ho1.1 rfl (by decide) rfl (Or.inl q1275) dX6_flood_19 ?_
      refine r_iconst X dX6_flood_22 ?_
      refine r_iadd X dX6_flood_23 ?_
      refine r_sipush X dX6_flood_24 (by decide) ?_
      obtain ⟨c3, h⟩ := ck_some h
      refine r_irem X dX6_flood_27 c3 (by decide) (by decide) ?_
      refine r_putI (kf := 34) X ho1.1 rfl (by decide) rfl rfl (Or.inl q1275) dX6_flood_28 rfl ?_
      refine r_let h (fun σ4 eσ4 h => ?_)
      refine r_aload_n X 1 dX6_flood_31 rfl rfl ?_
      refine r_dup X dX6_flood_32 rfl ?_
      have hk5 : oc σ4 (a0) 5 := by rw [eσ4]; exact ho1
      refine r_getI (kf := 35) X hk5.1 rfl (by decide) rfl (Or.inl q1276) dX6_flood_33 ?_
      refine r_iconst X dX6_flood_36 ?_
      refine r_isub X dX6_flood_37 ?_
      refine r_putI (kf := 35) X hk5.1 rfl (by decide) rfl rfl (Or.inl q1276) dX6_flood_38 rfl ?_
      refine r_let h (fun σ6 eσ6 h => ?_)
      refine r_aload_n X 1 dX6_flood_41 rfl rfl ?_
      have hk7 : oc σ6 (a0) 5 := by rw [eσ6]; exact hk5
      refine r_getA (kf := 33) X hk7.1 rfl (by decide) (by decide) (Or.inl q1274) dX6_flood_42 ?_
      refine r_iload_n X 0 dX6_flood_45 rfl rfl ?_
      refine r_iconst X dX6_flood_46 ?_
      refine r_zast X hk7.1 (hk7.2 33 (by decide)) rfl rfl rfl (by decide) dX6_flood_47 h (fun h => ?_)
      refine r_let h (fun σ8 eσ8 h => ?_)
      refine r_iconst X dX6_flood_48 ?_
      refine r_istore X dX6_flood_49 (hL 4 (by decide)) (lv' := [(4, iv (0)), (3, iv ((gI (σ_1) (a0) 32 ((gI (σ_1) (a0) 34 0))))), (0, .ref (a0)), (1, iv (x1)), (2, iv (x2))]) rfl ?_
      have L51 : ∀ s : Int × St, lp (fun s => f_X6_flood_b51 (a0) (x1) (x2) ((gI (σ_1) (a0) 32 ((gI (σ_1) (a0) 34 0)))) s.1 s.2) s = some z1 → V Γ (s.2) 0 0 51 [(0, .ref (a0)), (1, iv (x1)), (2, iv (x2)), (3, iv ((gI (σ_1) (a0) 32 ((gI (σ_1) (a0) 34 0))))), (4, iv (s.1))] [] := by
        refine lp_rule (P := fun s : Int × St => V Γ (s.2) 0 0 51 [(0, .ref (a0)), (1, iv (x1)), (2, iv (x2)), (3, iv ((gI (σ_1) (a0) 32 ((gI (σ_1) (a0) 34 0))))), (4, iv (s.1))] []) ?_
        intro s z2 h ihb2 ihe2
        obtain ⟨v4_2, σ_2⟩ := s
        have h : f_X6_flood_b51 (a0) (x1) (x2) ((gI (σ_1) (a0) 32 ((gI (σ_1) (a0) 34 0)))) v4_2 σ_2 = some z2 := h
        unfold f_X6_flood_b51 at h
        show V Γ σ_2 0 0 51 [(0, .ref (a0)), (1, iv (x1)), (2, iv (x2)), (3, iv ((gI (σ_1) (a0) 32 ((gI (σ_1) (a0) 34 0))))), (4, iv (v4_2))] []
        refine r_iload X 4 dX6_flood_51 rfl ?_
        refine r_aload_n X 0 dX6_flood_53 rfl rfl ?_
        obtain ⟨ho9, h⟩ := cO_some h
        refine r_getA (kf := 18) X ho9.1 rfl (by decide) (by decide) (Or.inl q1259) dX6_flood_54 ?_
        refine r_iload_n X 1 dX6_flood_57 rfl rfl ?_
        refine r_iald X ho9.1 (ho9.2 18 (by decide)) rfl rfl rfl (by decide) dX6_flood_58 h (fun h => ?_)
        refine r_icmp_ge (tgt := 132) X dX6_flood_59 (by decide) h (fun c10 h => ?_) (fun c10 h => ?_)
        · refine r_aload_n X 0 dX6_flood_62 rfl rfl ?_
          refine r_iload_n X 2 dX6_flood_63 rfl rfl ?_
          refine r_iload_n X 3 dX6_flood_64 rfl rfl ?_
          refine r_iload_n X 3 dX6_flood_65 rfl rfl ?_
          refine r_aload_n X 0 dX6_flood_66 rfl rfl ?_
          refine r_getA (kf := 19) X ho9.1 rfl (by decide) (by decide) (Or.inl q1260) dX6_flood_67 ?_
          refine r_bipush X dX6_flood_70 (by decide) ?_
          refine r_iload_n X 1 dX6_flood_72 rfl rfl ?_
          refine r_imul X dX6_flood_73 ?_
          refine r_iload X 4 dX6_flood_74 rfl ?_
          refine r_iadd X dX6_flood_76 ?_
          refine r_iald X ho9.1 (ho9.2 19 (by decide)) rfl rfl rfl (by decide) dX6_flood_77 h (fun h => ?_)
          refine r_isub X dX6_flood_78 ?_
          refine r_aload_n X 0 dX6_flood_79 rfl rfl ?_
          refine r_getA (kf := 20) X ho9.1 rfl (by decide) (by decide) (Or.inl q1261) dX6_flood_80 ?_
          refine r_bipush X dX6_flood_83 (by decide) ?_
          refine r_iload_n X 1 dX6_flood_85 rfl rfl ?_
          refine r_imul X dX6_flood_86 ?_
          refine r_iload X 4 dX6_flood_87 rfl ?_
          refine r_iadd X dX6_flood_89 ?_
          refine r_iald X ho9.1 (ho9.2 20 (by decide)) rfl rfl rfl (by decide) dX6_flood_90 h (fun h => ?_)
          obtain ⟨σ12, h11, h⟩ := bd_some h
          refine r_cV (Wd := 0) X (fun l D sz => w_X6_touch l D sz h11) ho9.1 rfl q1604 qs72 q1602 q109 q1605 hy_X6_touch rfl dX6_flood_91 rfl rfl (Nat.le_of_ble_eq_true rfl) ⟨Nat.le_of_ble_eq_true rfl, Nat.le_of_ble_eq_true rfl⟩ ⟨Nat.le_of_ble_eq_true rfl, Nat.le_of_ble_eq_true rfl⟩ ?_
          refine r_aload_n X 0 dX6_flood_94 rfl rfl ?_
          refine r_iload_n X 2 dX6_flood_95 rfl rfl ?_
          refine r_iload_n X 3 dX6_flood_96 rfl rfl ?_
          refine r_iload_n X 3 dX6_flood_97 rfl rfl ?_
          refine r_aload_n X 0 dX6_flood_98 rfl rfl ?_
          obtain ⟨ho13, h⟩ := cO_some h
          refine r_getA (kf := 19) X ho13.1 rfl (by decide) (by decide) (Or.inl q1260) dX6_flood_99 ?_
          refine r_bipush X dX6_flood_102 (by decide) ?_
          refine r_iload_n X 1 dX6_flood_104 rfl rfl ?_
          refine r_imul X dX6_flood_105 ?_
          refine r_iload X 4 dX6_flood_106 rfl ?_
          refine r_iadd X dX6_flood_108 ?_
          refine r_iald X ho13.1 (ho13.2 19 (by decide)) rfl rfl rfl (by decide) dX6_flood_109 h (fun h => ?_)
          refine r_iadd X dX6_flood_110 ?_
          refine r_aload_n X 0 dX6_flood_111 rfl rfl ?_
          refine r_getA (kf := 20) X ho13.1 rfl (by decide) (by decide) (Or.inl q1261) dX6_flood_112 ?_
          refine r_bipush X dX6_flood_115 (by decide) ?_
          refine r_iload_n X 1 dX6_flood_117 rfl rfl ?_
          refine r_imul X dX6_flood_118 ?_
          refine r_iload X 4 dX6_flood_119 rfl ?_
          refine r_iadd X dX6_flood_121 ?_
          refine r_iald X ho13.1 (ho13.2 20 (by decide)) rfl rfl rfl (by decide) dX6_flood_122 h (fun h => ?_)
          obtain ⟨σ15, h14, h⟩ := bd_some h
          refine r_cV (Wd := 0) X (fun l D sz => w_X6_touch l D sz h14) ho13.1 rfl q1604 qs72 q1602 q109 q1605 hy_X6_touch rfl dX6_flood_123 rfl rfl (Nat.le_of_ble_eq_true rfl) ⟨Nat.le_of_ble_eq_true rfl, Nat.le_of_ble_eq_true rfl⟩ ⟨Nat.le_of_ble_eq_true rfl, Nat.le_of_ble_eq_true rfl⟩ ?_
          refine r_iinc X 4 dX6_flood_126 rfl (hL 4 (by decide)) (lv' := [(4, iv ((v4_2 + 1))), (0, .ref (a0)), (1, iv (x1)), (2, iv (x2)), (3, iv ((gI (σ_1) (a0) 32 ((gI (σ_1) (a0) 34 0)))))]) rfl ?_
          refine r_goto (tgt := 51) X dX6_flood_129 (by decide) ?_
          exact V.sub [1, 2, 3, 4, 0] rfl (ihb2 _ (Option.some.inj h).symm)
        · have h := ex_some h ihe2
          refine r_goto (tgt := 0) X dX6_flood_132 (by decide) ?_
          exact V.sub [0, 1, 2] rfl (ihb1 _ (Option.some.inj h).symm)
      exact V.sub [2, 3, 4, 1, 0] rfl (L51 (0, σ8) h)
    · have h := ex_some h ihe1
      cases h
      exact r_vret X hr dX6_flood_135
  exact V.sub [0, 1, 2] rfl (L0 (σ) h)
theorem hy_X6_spread : yX6_spread.cls ≠ "java/lang/invoke/MethodHandle" ∧ yX6_spread.cls ≠ "java/lang/invoke/VarHandle" ∧ (parseMethodDescriptor yX6_spread.desc).map (fun d => d.parameters.length) = some 1 := by decide +kernel
set_option maxHeartbeats 4000000 in
theorem w_X6_spread (l : Launch) (D : DD) (sz : Nat) {σ : St} {a0 : Nat} {x1 : Int} {w : St} (h : f_X6_spread σ a0 x1 = some w) : Mt l yX6_spread cX6_spread 8 none ({ frames := 3, cells := 0, slots := 0, locals := 48 } : Room) D sz σ [.ref a0, iv (x1)] (.returned none) (w) 0 0 := by
  refine Mt.of (by decide +kernel) (Nat.le_of_ble_eq_true rfl) ?_
  intro Γ X hr hnl hini hnoh
  have X : Cx Γ cX6_spread "DayBoyModel" _ := X
  have hL : ∀ i, i < 8 → i < nLc Γ := fun i q => by rw [hnl]; exact q
  show V Γ σ 0 0 0 [(0, .ref (a0)), (1, iv (x1))] []
  unfold f_X6_spread at h
  obtain ⟨ho0, h⟩ := cO_some h
  refine r_aload_n X 0 dX6_spread_0 rfl rfl ?_
  refine r_iconst X dX6_spread_1 ?_
  refine r_putI (kf := 34) X ho0.1 rfl (by decide) rfl rfl (Or.inl q1275) dX6_spread_2 rfl ?_
  refine r_let h (fun σ1 eσ1 h => ?_)
  refine r_aload_n X 0 dX6_spread_5 rfl rfl ?_
  refine r_iconst X dX6_spread_6 ?_
  have hk2 : oc σ1 (a0) 5 := by rw [eσ1]; exact ho0
  refine r_putI (kf := 35) X hk2.1 rfl (by decide) rfl rfl (Or.inl q1276) dX6_spread_7 rfl ?_
  refine r_let h (fun σ3 eσ3 h => ?_)
  refine r_iconst X dX6_spread_10 ?_
  refine r_istore_n X dX6_spread_11 rfl (hL 2 (by decide)) (lv' := [(2, iv (0)), (0, .ref (a0)), (1, iv (x1))]) rfl ?_
  have L12 : ∀ s : Int × St, lp (fun s => f_X6_spread_b12 (a0) (x1) s.1 s.2) s = some w → V Γ (s.2) 0 0 12 [(0, .ref (a0)), (1, iv (x1)), (2, iv (s.1))] [] := by
    refine lp_rule (P := fun s : Int × St => V Γ (s.2) 0 0 12 [(0, .ref (a0)), (1, iv (x1)), (2, iv (s.1))] []) ?_
    intro s z1 h ihb1 ihe1
    obtain ⟨v2_1, σ_1⟩ := s
    have h : f_X6_spread_b12 (a0) (x1) v2_1 σ_1 = some z1 := h
    unfold f_X6_spread_b12 at h
    show V Γ σ_1 0 0 12 [(0, .ref (a0)), (1, iv (x1)), (2, iv (v2_1))] []
    refine r_iload_n X 2 dX6_spread_12 rfl rfl ?_
    refine r_sipush X dX6_spread_13 (by decide) ?_
    refine r_icmp_ge (tgt := 85) X dX6_spread_16 (by decide) h (fun c4 h => ?_) (fun c4 h => ?_)
    · refine r_aload_n X 0 dX6_spread_19 rfl rfl ?_
      obtain ⟨ho5, h⟩ := cO_some h
      refine r_getA (kf := 30) X ho5.1 rfl (by decide) (by decide) (Or.inl q1271) dX6_spread_20 ?_
      refine r_sipush X dX6_spread_23 (by decide) ?_
      refine r_iload_n X 1 dX6_spread_26 rfl rfl ?_
      refine r_imul X dX6_spread_27 ?_
      refine r_iload_n X 2 dX6_spread_28 rfl rfl ?_
      refine r_iadd X dX6_spread_29 ?_
      refine r_ldc2 (z := 1152921504606846976) X q1589 dX6_spread_30 rfl ?_
      refine r_last X ho5.1 (ho5.2 30 (by decide)) rfl rfl rfl (by decide) dX6_spread_33 h (fun h => ?_)
      refine r_let h (fun σ6 eσ6 h => ?_)
      refine r_aload_n X 0 dX6_spread_34 rfl rfl ?_
      have hk7 : oc σ6 (a0) 5 := by rw [eσ6]; exact ho5
      refine r_getA (kf := 33) X hk7.1 rfl (by decide) (by decide) (Or.inl q1274) dX6_spread_35 ?_
      refine r_iload_n X 2 dX6_spread_38 rfl rfl ?_
      refine r_iconst X dX6_spread_39 ?_
      refine r_zast X hk7.1 (hk7.2 33 (by decide)) rfl rfl rfl (by decide) dX6_spread_40 h (fun h => ?_)
      refine r_let h (fun σ8 eσ8 h => ?_)
      refine r_iload_n X 2 dX6_spread_41 rfl rfl ?_
      refine r_if_le (tgt := 79) X dX6_spread_42 (by decide) h (fun c9 h => ?_) (fun c9 h => ?_)
      · refine r_iload_n X 2 dX6_spread_45 rfl rfl ?_
        refine r_sipush X dX6_spread_46 (by decide) ?_
        refine r_icmp_gt (tgt := 79) X dX6_spread_49 (by decide) h (fun c10 h => ?_) (fun c10 h => ?_)
        · refine r_iinc X 2 dX6_spread_79 rfl (hL 2 (by decide)) (lv' := [(2, iv ((v2_1 + 1))), (0, .ref (a0)), (1, iv (x1))]) rfl ?_
          refine r_goto (tgt := 12) X dX6_spread_82 (by decide) ?_
          exact V.sub [1, 2, 0] rfl (ihb1 _ (Option.some.inj h).symm)
        · refine r_aload_n X 0 dX6_spread_52 rfl rfl ?_
          refine r_iload_n X 1 dX6_spread_53 rfl rfl ?_
          refine r_iload_n X 2 dX6_spread_54 rfl rfl ?_
          have hk12 : oc σ8 (a0) 5 := by rw [eσ8]; exact hk7
          obtain ⟨r13, h11, h⟩ := bd_some h
          refine r_cV (Wd := 0) X (fun l D sz => w_X6_knowsYear l D sz h11) hk12.1 rfl q1592 qs69 q1590 q109 q1593 hy_X6_knowsYear rfl dX6_spread_55 rfl rfl (Nat.le_of_ble_eq_true rfl) ⟨Nat.le_of_ble_eq_true rfl, Nat.le_of_ble_eq_true rfl⟩ ⟨Nat.le_of_ble_eq_true rfl, Nat.le_of_ble_eq_true rfl⟩ ?_
          refine r_if_eq (tgt := 79) X dX6_spread_58 (by decide) h (fun c14 h => ?_) (fun c14 h => ?_)
          · refine r_iinc X 2 dX6_spread_79 rfl (hL 2 (by decide)) (lv' := [(2, iv ((v2_1 + 1))), (0, .ref (a0)), (1, iv (x1))]) rfl ?_
            refine r_goto (tgt := 12) X dX6_spread_82 (by decide) ?_
            exact V.sub [1, 2, 0] rfl (ihb1 _ (Option.some.inj h).symm)
          · refine r_aload_n X 0 dX6_spread_61 rfl rfl ?_
            refine r_getA (kf := 30) X hk12.1 rfl (by decide) (by decide) (Or.inl q1271) dX6_spread_62 ?_
            refine r_sipush X dX6_spread_65 (by decide) ?_
            refine r_iload_n X 1 dX6_spread_68 rfl rfl ?_
            refine r_imul X dX6_spread_69 ?_
            refine r_iload_n X 2 dX6_spread_70 rfl rfl ?_
            refine r_iadd X dX6_spread_71 ?_
            refine r_lconst (y := 0) X dX6_spread_72 rfl ?_
            refine r_last X hk12.1 (hk12.2 30 (by decide)) rfl rfl rfl (by decide) dX6_spread_73 h (fun h => ?_)
            refine r_let h (fun σ15 eσ15 h => ?_)
            refine r_aload_n X 0 dX6_spread_74 rfl rfl ?_
            refine r_iload_n X 2 dX6_spread_75 rfl rfl ?_
            have hk17 : oc σ15 (a0) 5 := by rw [eσ15]; exact hk12
            obtain ⟨σ18, h16, h⟩ := bd_some h
            refine r_cV (Wd := 0) X (fun l D sz => w_X6_push l D sz h16) hk17.1 rfl q1596 qs70 q1594 q109 q1597 hy_X6_push rfl dX6_spread_76 rfl rfl (Nat.le_of_ble_eq_true rfl) ⟨Nat.le_of_ble_eq_true rfl, Nat.le_of_ble_eq_true rfl⟩ ⟨Nat.le_of_ble_eq_true rfl, Nat.le_of_ble_eq_true rfl⟩ ?_
            refine r_iinc X 2 dX6_spread_79 rfl (hL 2 (by decide)) (lv' := [(2, iv ((v2_1 + 1))), (0, .ref (a0)), (1, iv (x1))]) rfl ?_
            refine r_goto (tgt := 12) X dX6_spread_82 (by decide) ?_
            exact V.sub [1, 2, 0] rfl (ihb1 _ (Option.some.inj h).symm)
      · refine r_iinc X 2 dX6_spread_79 rfl (hL 2 (by decide)) (lv' := [(2, iv ((v2_1 + 1))), (0, .ref (a0)), (1, iv (x1))]) rfl ?_
        refine r_goto (tgt := 12) X dX6_spread_82 (by decide) ?_
        exact V.sub [1, 2, 0] rfl (ihb1 _ (Option.some.inj h).symm)
    · have h := ex_some h ihe1
      refine r_aload_n X 0 dX6_spread_85 rfl rfl ?_
      refine r_iload_n X 1 dX6_spread_86 rfl rfl ?_
      refine r_iload_n X 1 dX6_spread_87 rfl rfl ?_
      obtain ⟨ho20, h⟩ := cO_some h
      obtain ⟨σ21, h19, h⟩ := bd_some h
      refine r_cV (Wd := 0) X (fun l D sz => w_X6_flood l D sz h19) ho20.1 rfl q1600 qs71 q1598 q109 q1601 hy_X6_flood rfl dX6_spread_88 rfl rfl (Nat.le_of_ble_eq_true rfl) ⟨Nat.le_of_ble_eq_true rfl, Nat.le_of_ble_eq_true rfl⟩ ⟨Nat.le_of_ble_eq_true rfl, Nat.le_of_ble_eq_true rfl⟩ ?_
      refine r_iconst X dX6_spread_91 ?_
      refine r_istore_n X dX6_spread_92 rfl (hL 2 (by decide)) (lv' := [(2, iv (1)), (0, .ref (a0)), (1, iv (x1))]) rfl ?_
      have L93 : ∀ s : Int × St, lp (fun s => f_X6_spread_b93 (a0) (x1) s.1 s.2) s = some w → V Γ (s.2) 0 0 93 [(0, .ref (a0)), (1, iv (x1)), (2, iv (s.1))] [] := by
        refine lp_rule (P := fun s : Int × St => V Γ (s.2) 0 0 93 [(0, .ref (a0)), (1, iv (x1)), (2, iv (s.1))] []) ?_
        intro s z1 h ihb1 ihe1
        obtain ⟨v2_1, σ_1⟩ := s
        have h : f_X6_spread_b93 (a0) (x1) v2_1 σ_1 = some z1 := h
        unfold f_X6_spread_b93 at h
        show V Γ σ_1 0 0 93 [(0, .ref (a0)), (1, iv (x1)), (2, iv (v2_1))] []
        have J162 : ∀ (v2_j162 : Int) (t0_j162 : Int) (t1_j162 : Int) (σ_j162 : St), f_X6_spread_j162 (a0) (x1) v2_j162 t0_j162 t1_j162 σ_j162 = some z1 → V Γ σ_j162 0 0 162 [(0, .ref (a0)), (1, iv (x1)), (2, iv (v2_j162))] [jv (t0_j162), iv (t1_j162), va_rf (aR (σ_j162) (a0) 31)] := by
          intro v2_j162 t0_j162 t1_j162 σ_j162 h
          unfold f_X6_spread_j162 at h
          obtain ⟨ho22, h⟩ := cO_some h
          refine r_last X ho22.1 (ho22.2 31 (by decide)) rfl rfl rfl (by decide) dX6_spread_162 h (fun h => ?_)
          refine r_let h (fun σ23 eσ23 h => ?_)
          refine r_iinc X 2 dX6_spread_163 rfl (hL 2 (by decide)) (lv' := [(2, iv ((v2_j162 + 1))), (0, .ref (a0)), (1, iv (x1))]) rfl ?_
          refine r_goto (tgt := 93) X dX6_spread_166 (by decide) ?_
          exact V.sub [1, 2, 0] rfl (ihb1 _ (Option.some.inj h).symm)
        have J140 : ∀ (v2_j140 : Int) (t0_j140 : Int) (σ_j140 : St), f_X6_spread_j140 (a0) (x1) v2_j140 t0_j140 σ_j140 = some z1 → V Γ σ_j140 0 0 140 [(0, .ref (a0)), (1, iv (x1)), (2, iv (v2_j140))] [iv (t0_j140)] := by
          intro v2_j140 t0_j140 σ_j140 h
          unfold f_X6_spread_j140 at h
          refine r_istore_n X dX6_spread_140 rfl (hL 3 (by decide)) (lv' := [(3, iv (t0_j140)), (0, .ref (a0)), (1, iv (x1)), (2, iv (v2_j140))]) rfl ?_
          refine r_aload_n X 1 dX6_spread_141 rfl rfl ?_
          obtain ⟨ho24, h⟩ := cO_some h
          refine r_getA (kf := 31) X ho24.1 rfl (by decide) (by decide) (Or.inl q1272) dX6_spread_142 ?_
          refine r_bipush X dX6_spread_145 (by decide) ?_
          refine r_iload_n X 2 dX6_spread_147 rfl rfl ?_
          refine r_imul X dX6_spread_148 ?_
          refine r_iload_n X 3 dX6_spread_149 rfl rfl ?_
          refine r_iadd X dX6_spread_150 ?_
          refine r_iload_n X 0 dX6_spread_151 rfl rfl ?_
          refine r_if_eq (tgt := 159) X dX6_spread_152 (by decide) h (fun c25 h => ?_) (fun c25 h => ?_)
          · refine r_ldc2 (z := 1152921504606846976) X q1589 dX6_spread_159 rfl ?_
            exact V.sub [1, 2, 3] rfl (J162 (v2_j140) (1152921504606846976) (((13 * x1) + v2_j140)) (σ_j140) h)
          · refine r_lconst (y := 0) X dX6_spread_155 rfl ?_
            refine r_goto (tgt := 162) X dX6_spread_156 (by decide) ?_
            exact V.sub [1, 2, 3] rfl (J162 (v2_j140) (0) (((13 * x1) + v2_j140)) (σ_j140) h)
        refine r_iload_n X 2 dX6_spread_93 rfl rfl ?_
        refine r_bipush X dX6_spread_94 (by decide) ?_
        refine r_icmp_gt (tgt := 169) X dX6_spread_96 (by decide) h (fun c26 h => ?_) (fun c26 h => ?_)
        · have h := ex_some h ihe1
          refine r_iconst X dX6_spread_169 ?_
          refine r_istore_n X dX6_spread_170 rfl (hL 2 (by decide)) (lv' := [(2, iv (0)), (0, .ref (a0)), (1, iv (x1))]) rfl ?_
          have L171 : ∀ s : Int × St, lp (fun s => f_X6_spread_b171 (a0) (x1) s.1 s.2) s = some w → V Γ (s.2) 0 0 171 [(0, .ref (a0)), (1, iv (x1)), (2, iv (s.1))] [] := by
            refine lp_rule (P := fun s : Int × St => V Γ (s.2) 0 0 171 [(0, .ref (a0)), (1, iv (x1)), (2, iv (s.1))] []) ?_
            intro s z1 h ihb1 ihe1
            obtain ⟨v2_1, σ_1⟩ := s
            have h : f_X6_spread_b171 (a0) (x1) v2_1 σ_1 = some z1 := h
            unfold f_X6_spread_b171 at h
            show V Γ σ_1 0 0 171 [(0, .ref (a0)), (1, iv (x1)), (2, iv (v2_1))] []
            refine r_iload_n X 2 dX6_spread_171 rfl rfl ?_
            refine r_bipush X dX6_spread_172 (by decide) ?_
            refine r_icmp_ge (tgt := 311) X dX6_spread_174 (by decide) h (fun c27 h => ?_) (fun c27 h => ?_)
            · refine r_iconst X dX6_spread_177 ?_
              refine r_istore_n X dX6_spread_178 rfl (hL 3 (by decide)) (lv' := [(3, iv (0)), (0, .ref (a0)), (1, iv (x1)), (2, iv (v2_1))]) rfl ?_
              have L179 : ∀ s : Int × St, lp (fun s => f_X6_spread_b179 (a0) (x1) (v2_1) s.1 s.2) s = some z1 → V Γ (s.2) 0 0 179 [(0, .ref (a0)), (1, iv (x1)), (2, iv (v2_1)), (3, iv (s.1))] [] := by
                refine lp_rule (P := fun s : Int × St => V Γ (s.2) 0 0 179 [(0, .ref (a0)), (1, iv (x1)), (2, iv (v2_1)), (3, iv (s.1))] []) ?_
                intro s z2 h ihb2 ihe2
                obtain ⟨v3_2, σ_2⟩ := s
                have h : f_X6_spread_b179 (a0) (x1) (v2_1) v3_2 σ_2 = some z2 := h
                unfold f_X6_spread_b179 at h
                show V Γ σ_2 0 0 179 [(0, .ref (a0)), (1, iv (x1)), (2, iv (v2_1)), (3, iv (v3_2))] []
                refine r_iload_n X 3 dX6_spread_179 rfl rfl ?_
                refine r_aload_n X 0 dX6_spread_180 rfl rfl ?_
                obtain ⟨ho28, h⟩ := cO_some h
                refine r_getA (kf := 21) X ho28.1 rfl (by decide) (by decide) (Or.inl q1262) dX6_spread_181 ?_
                refine r_iload_n X 1 dX6_spread_184 rfl rfl ?_
                refine r_iald X ho28.1 (ho28.2 21 (by decide)) rfl rfl rfl (by decide) dX6_spread_185 h (fun h => ?_)
                refine r_icmp_ge (tgt := 305) X dX6_spread_186 (by decide) h (fun c29 h => ?_) (fun c29 h => ?_)
                · refine r_ldc2 (z := 100000) X q1606 dX6_spread_189 rfl ?_
                  refine r_aload_n X 0 dX6_spread_192 rfl rfl ?_
                  refine r_getA (kf := 24) X ho28.1 rfl (by decide) (by decide) (Or.inl q1265) dX6_spread_193 ?_
                  refine r_bipush X dX6_spread_196 (by decide) ?_
                  refine r_iload_n X 1 dX6_spread_198 rfl rfl ?_
                  refine r_imul X dX6_spread_199 ?_
                  refine r_iload_n X 3 dX6_spread_200 rfl rfl ?_
                  refine r_iadd X dX6_spread_201 ?_
                  refine r_iald X ho28.1 (ho28.2 24 (by decide)) rfl rfl rfl (by decide) dX6_spread_202 h (fun h => ?_)
                  obtain ⟨c30, h⟩ := ck_some h
                  refine r_i2l X dX6_spread_203 c30 ?_
                  refine r_lmul X dX6_spread_204 ?_
                  refine r_lconst (y := 1) X dX6_spread_205 rfl ?_
                  refine r_ladd X dX6_spread_206 ?_
                  refine r_lstore X dX6_spread_207 (hL 5 (by decide)) (lv' := [(4, jv (((100000 * (gI (σ_2) (a0) 24 (((12 * x1) + v3_2)))) + 1))), (0, .ref (a0)), (1, iv (x1)), (2, iv (v2_1)), (3, iv (v3_2))]) rfl ?_
                  refine r_bipush X dX6_spread_209 (by decide) ?_
                  refine r_iload_n X 2 dX6_spread_211 rfl rfl ?_
                  refine r_imul X dX6_spread_212 ?_
                  refine r_aload_n X 1 dX6_spread_213 rfl rfl ?_
                  refine r_getA (kf := 22) X ho28.1 rfl (by decide) (by decide) (Or.inl q1263) dX6_spread_214 ?_
                  refine r_bipush X dX6_spread_217 (by decide) ?_
                  refine r_iload_n X 2 dX6_spread_219 rfl rfl ?_
                  refine r_imul X dX6_spread_220 ?_
                  refine r_iload_n X 4 dX6_spread_221 rfl rfl ?_
                  refine r_iadd X dX6_spread_222 ?_
                  refine r_iald X ho28.1 (ho28.2 22 (by decide)) rfl rfl rfl (by decide) dX6_spread_223 h (fun h => ?_)
                  refine r_iadd X dX6_spread_224 ?_
                  refine r_istore X dX6_spread_225 (hL 6 (by decide)) (lv' := [(6, iv (((13 * x1) + (gI (σ_2) (a0) 22 (((12 * x1) + v3_2)))))), (4, jv (((100000 * (gI (σ_2) (a0) 24 (((12 * x1) + v3_2)))) + 1))), (0, .ref (a0)), (1, iv (x1)), (2, iv (v2_1)), (3, iv (v3_2))]) rfl ?_
                  refine r_bipush X dX6_spread_227 (by decide) ?_
                  refine r_iload_n X 3 dX6_spread_229 rfl rfl ?_
                  refine r_imul X dX6_spread_230 ?_
                  refine r_aload_n X 2 dX6_spread_231 rfl rfl ?_
                  refine r_getA (kf := 23) X ho28.1 rfl (by decide) (by decide) (Or.inl q1264) dX6_spread_232 ?_
                  refine r_bipush X dX6_spread_235 (by decide) ?_
                  refine r_iload_n X 3 dX6_spread_237 rfl rfl ?_
                  refine r_imul X dX6_spread_238 ?_
                  refine r_iload_n X 5 dX6_spread_239 rfl rfl ?_
                  refine r_iadd X dX6_spread_240 ?_
                  refine r_iald X ho28.1 (ho28.2 23 (by decide)) rfl rfl rfl (by decide) dX6_spread_241 h (fun h => ?_)
                  refine r_iadd X dX6_spread_242 ?_
                  refine r_istore X dX6_spread_243 (hL 7 (by decide)) (lv' := [(7, iv (((13 * x1) + (gI (σ_2) (a0) 23 (((12 * x1) + v3_2)))))), (6, iv (((13 * x1) + (gI (σ_2) (a0) 22 (((12 * x1) + v3_2)))))), (4, jv (((100000 * (gI (σ_2) (a0) 24 (((12 * x1) + v3_2)))) + 1))), (0, .ref (a0)), (1, iv (x1)), (2, iv (v2_1)), (3, iv (v3_2))]) rfl ?_
                  refine r_aload_n X 3 dX6_spread_245 rfl rfl ?_
                  refine r_getA (kf := 31) X ho28.1 rfl (by decide) (by decide) (Or.inl q1272) dX6_spread_246 ?_
                  refine r_iload X 1 dX6_spread_249 rfl ?_
                  refine r_aload_n X 3 dX6_spread_251 rfl rfl ?_
                  refine r_getA (kf := 31) X ho28.1 rfl (by decide) (by decide) (Or.inl q1272) dX6_spread_252 ?_
                  refine r_iload X 1 dX6_spread_255 rfl ?_
                  refine r_lald X ho28.1 (ho28.2 31 (by decide)) rfl rfl rfl (by decide) dX6_spread_257 h (fun h => ?_)
                  refine r_aload_n X 3 dX6_spread_258 rfl rfl ?_
                  refine r_getA (kf := 31) X ho28.1 rfl (by decide) (by decide) (Or.inl q1272) dX6_spread_259 ?_
                  refine r_iload X 0 dX6_spread_262 rfl ?_
                  refine r_lald X ho28.1 (ho28.2 31 (by decide)) rfl rfl rfl (by decide) dX6_spread_264 h (fun h => ?_)
                  refine r_lload X 2 dX6_spread_265 rfl ?_
                  refine r_ladd X dX6_spread_267 ?_
                  obtain ⟨r32, h31, h⟩ := bd_some h
                  refine r_cS (Wd := 2) X (fun l D sz => w_J3_min_2 l D sz h31) q743 q1607 q115 q744 hy_J3_min_2 rfl dX6_spread_268 rfl rfl (by simp only [List.map_cons, List.map_nil, cat_rf, cat_iv, cat_jv, cat_ref, List.sum_cons, List.sum_nil]; decide) ⟨Nat.le_of_ble_eq_true rfl, Nat.le_of_ble_eq_true rfl⟩ ⟨Nat.le_of_ble_eq_true rfl, Nat.le_of_ble_eq_true rfl⟩ ?_
                  refine r_last X ho28.1 (ho28.2 31 (by decide)) rfl rfl rfl (by decide) dX6_spread_271 h (fun h => ?_)
                  refine r_let h (fun σ33 eσ33 h => ?_)
                  refine r_aload_n X 3 dX6_spread_272 rfl rfl ?_
                  have hk34 : oc σ33 (a0) 5 := by rw [eσ33]; exact ho28
                  refine r_getA (kf := 31) X hk34.1 rfl (by decide) (by decide) (Or.inl q1272) dX6_spread_273 ?_
                  refine r_iload X 0 dX6_spread_276 rfl ?_
                  refine r_aload_n X 3 dX6_spread_278 rfl rfl ?_
                  refine r_getA (kf := 31) X hk34.1 rfl (by decide) (by decide) (Or.inl q1272) dX6_spread_279 ?_
                  refine r_iload X 0 dX6_spread_282 rfl ?_
                  refine r_lald X hk34.1 (hk34.2 31 (by decide)) rfl rfl rfl (by decide) dX6_spread_284 h (fun h => ?_)
                  refine r_aload_n X 3 dX6_spread_285 rfl rfl ?_
                  refine r_getA (kf := 31) X hk34.1 rfl (by decide) (by decide) (Or.inl q1272) dX6_spread_286 ?_
                  refine r_iload X 1 dX6_spread_289 rfl ?_
                  refine r_lald X hk34.1 (hk34.2 31 (by decide)) rfl rfl rfl (by decide) dX6_spread_291 h (fun h => ?_)
                  refine r_lload X 2 dX6_spread_292 rfl ?_
                  refine r_ladd X dX6_spread_294 ?_
                  obtain ⟨r36, h35, h⟩ := bd_some h
                  refine r_cS (Wd := 2) X (fun l D sz => w_J3_min_2 l D sz h35) q743 q1607 q115 q744 hy_J3_min_2 rfl dX6_spread_295 rfl rfl (by simp only [List.map_cons, List.map_nil, cat_rf, cat_iv, cat_jv, cat_ref, List.sum_cons, List.sum_nil]; decide) ⟨Nat.le_of_ble_eq_true rfl, Nat.le_of_ble_eq_true rfl⟩ ⟨Nat.le_of_ble_eq_true rfl, Nat.le_of_ble_eq_true rfl⟩ ?_
                  refine r_last X hk34.1 (hk34.2 31 (by decide)) rfl rfl rfl (by decide) dX6_spread_298 h (fun h => ?_)
                  refine r_let h (fun σ37 eσ37 h => ?_)
                  refine r_iinc X 6 dX6_spread_299 rfl (hL 3 (by decide)) (lv' := [(3, iv ((v3_2 + 1))), (7, iv (((13 * x1) + (gI (σ_2) (a0) 23 (((12 * x1) + v3_2)))))), (6, iv (((13 * x1) + (gI (σ_2) (a0) 22 (((12 * x1) + v3_2)))))), (4, jv (((100000 * (gI (σ_2) (a0) 24 (((12 * x1) + v3_2)))) + 1))), (0, .ref (a0)), (1, iv (x1)), (2, iv (v2_1))]) rfl ?_
                  refine r_goto (tgt := 179) X dX6_spread_302 (by decide) ?_
                  exact V.sub [4, 5, 6, 0] rfl (ihb2 _ (Option.some.inj h).symm)
                · have h := ex_some h ihe2
                  refine r_iinc X 2 dX6_spread_305 rfl (hL 2 (by decide)) (lv' := [(2, iv ((v2_1 + 1))), (0, .ref (a0)), (1, iv (x1)), (3, iv (v3_2))]) rfl ?_
                  refine r_goto (tgt := 171) X dX6_spread_308 (by decide) ?_
                  exact V.sub [1, 2, 0] rfl (ihb1 _ (Option.some.inj h).symm)
              exact V.sub [1, 2, 3, 0] rfl (L179 (0, σ_1) h)
            · have h := ex_some h ihe1
              cases h
              exact r_vret X hr dX6_spread_311
          exact V.sub [1, 2, 0] rfl (L171 (0, σ_1) h)
        · refine r_aload_n X 0 dX6_spread_99 rfl rfl ?_
          obtain ⟨ho38, h⟩ := cO_some h
          refine r_getA (kf := 25) X ho38.1 rfl (by decide) (by decide) (Or.inl q1266) dX6_spread_100 ?_
          refine r_iload_n X 1 dX6_spread_103 rfl rfl ?_
          refine r_iald X ho38.1 (ho38.2 25 (by decide)) rfl rfl rfl (by decide) dX6_spread_104 h (fun h => ?_)
          refine r_if_ne (tgt := 121) X dX6_spread_105 (by decide) h (fun c39 h => ?_) (fun c39 h => ?_)
          · refine r_iload_n X 2 dX6_spread_108 rfl rfl ?_
            refine r_iconst X dX6_spread_109 ?_
            refine r_icmp_ne (tgt := 117) X dX6_spread_110 (by decide) h (fun c40 h => ?_) (fun c40 h => ?_)
            · refine r_iconst X dX6_spread_113 ?_
              refine r_goto (tgt := 140) X dX6_spread_114 (by decide) ?_
              exact V.sub [0, 1, 2] rfl (J140 (v2_1) (1) (σ_1) h)
            · refine r_iconst X dX6_spread_117 ?_
              refine r_goto (tgt := 140) X dX6_spread_118 (by decide) ?_
              exact V.sub [0, 1, 2] rfl (J140 (v2_1) (0) (σ_1) h)
          · refine r_aload_n X 0 dX6_spread_121 rfl rfl ?_
            refine r_getA (kf := 25) X ho38.1 rfl (by decide) (by decide) (Or.inl q1266) dX6_spread_122 ?_
            refine r_iload_n X 1 dX6_spread_125 rfl rfl ?_
            refine r_iald X ho38.1 (ho38.2 25 (by decide)) rfl rfl rfl (by decide) dX6_spread_126 h (fun h => ?_)
            refine r_iload_n X 2 dX6_spread_127 rfl rfl ?_
            refine r_ishr X dX6_spread_128 ?_
            refine r_iconst X dX6_spread_129 ?_
            refine r_iand X dX6_spread_130 ?_
            refine r_iconst X dX6_spread_131 ?_
            refine r_icmp_ne (tgt := 139) X dX6_spread_132 (by decide) h (fun c41 h => ?_) (fun c41 h => ?_)
            · refine r_iconst X dX6_spread_135 ?_
              refine r_goto (tgt := 140) X dX6_spread_136 (by decide) ?_
              exact V.sub [0, 1, 2] rfl (J140 (v2_1) (1) (σ_1) h)
            · refine r_iconst X dX6_spread_139 ?_
              exact V.sub [0, 1, 2] rfl (J140 (v2_1) (0) (σ_1) h)
      exact V.sub [1, 2, 0] rfl (L93 (1, σ21) h)
  exact V.sub [1, 2, 0] rfl (L12 (0, σ3) h)
theorem hy_X6_text : yX6_text.cls ≠ "java/lang/invoke/MethodHandle" ∧ yX6_text.cls ≠ "java/lang/invoke/VarHandle" ∧ (parseMethodDescriptor yX6_text.desc).map (fun d => d.parameters.length) = some 1 := by decide +kernel
set_option maxHeartbeats 4000000 in
theorem w_X6_text (l : Launch) (D : DD) (sz : Nat) {σ : St} {a0 : Nat} {x1 : Int} {w : Int × St} (h : f_X6_text σ a0 x1 = some w) : Mt l yX6_text cX6_text 2 (some FieldType.int) ({ frames := 7, cells := 0, slots := 0, locals := 103 } : Room) D sz σ [.ref a0, iv (x1)] (.returned (some (iv w.1))) (w.2) 0 0 := by
  refine Mt.of (by decide +kernel) (Nat.le_of_ble_eq_true rfl) ?_
  intro Γ X hr hnl hini hnoh
  have X : Cx Γ cX6_text "DayBoyModel" _ := X
  have hL : ∀ i, i < 2 → i < nLc Γ := fun i q => by rw [hnl]; exact q
  show V Γ σ 0 0 0 [(0, .ref (a0)), (1, iv (x1))] []
  unfold f_X6_text at h
  obtain ⟨ho0, h⟩ := cO_some h
  refine r_iload_n X 1 dX6_text_0 rfl rfl ?_
  refine r_if_ne (tgt := 49) X dX6_text_1 (by decide) h (fun c1 h => ?_) (fun c1 h => ?_)
  · refine r_aload_n X 0 dX6_text_4 rfl rfl ?_
    refine r_getI (kf := 14) X ho0.1 rfl (by decide) rfl (Or.inl q1255) dX6_text_5 ?_
    refine r_bipush X dX6_text_8 (by decide) ?_
    refine r_icmp_eq (tgt := 25) X dX6_text_10 (by decide) h (fun c2 h => ?_) (fun c2 h => ?_)
    · refine r_iconst X dX6_text_25 ?_
      cases h
      exact r_iret X hr dX6_text_26
    · refine r_aload_n X 0 dX6_text_13 rfl rfl ?_
      refine r_aload_n X 0 dX6_text_14 rfl rfl ?_
      refine r_getI (kf := 14) X ho0.1 rfl (by decide) rfl (Or.inl q1255) dX6_text_15 ?_
      obtain ⟨r4, σ5, h3, h⟩ := bd2_some h
      refine r_cV (Wd := 0) X (fun l D sz => w_X6_readCalendar l D sz h3) ho0.1 rfl q1476 qs44 q1474 q109 q1477 hy_X6_readCalendar rfl dX6_text_18 rfl rfl (Nat.le_of_ble_eq_true rfl) ⟨Nat.le_of_ble_eq_true rfl, Nat.le_of_ble_eq_true rfl⟩ ⟨Nat.le_of_ble_eq_true rfl, Nat.le_of_ble_eq_true rfl⟩ ?_
      refine r_iconst X dX6_text_21 ?_
      refine r_icmp_eq (tgt := 27) X dX6_text_22 (by decide) h (fun c6 h => ?_) (fun c6 h => ?_)
      · refine r_aload_n X 0 dX6_text_27 rfl rfl ?_
        refine r_iconst X dX6_text_28 ?_
        obtain ⟨ho7, h⟩ := cO_some h
        refine r_putI (kf := 2) X ho7.1 rfl (by decide) rfl rfl (Or.inl q1243) dX6_text_29 rfl ?_
        refine r_let h (fun σ8 eσ8 h => ?_)
        refine r_aload_n X 0 dX6_text_32 rfl rfl ?_
        refine r_dup X dX6_text_33 rfl ?_
        have hk9 : oc σ8 (a0) 5 := by rw [eσ8]; exact ho7
        refine r_getI (kf := 14) X hk9.1 rfl (by decide) rfl (Or.inl q1255) dX6_text_34 ?_
        refine r_iconst X dX6_text_37 ?_
        refine r_iadd X dX6_text_38 ?_
        refine r_putI (kf := 14) X hk9.1 rfl (by decide) rfl rfl (Or.inl q1255) dX6_text_39 rfl ?_
        refine r_let h (fun σ10 eσ10 h => ?_)
        refine r_aload_n X 0 dX6_text_42 rfl rfl ?_
        have hk11 : oc σ10 (a0) 5 := by rw [eσ10]; exact hk9
        refine r_getI (kf := 14) X hk11.1 rfl (by decide) rfl (Or.inl q1255) dX6_text_43 ?_
        refine r_iconst X dX6_text_46 ?_
        refine r_isub X dX6_text_47 ?_
        cases h
        exact r_iret X hr dX6_text_48
      · refine r_iconst X dX6_text_25 ?_
        cases h
        exact r_iret X hr dX6_text_26
  · refine r_iload_n X 1 dX6_text_49 rfl rfl ?_
    refine r_iconst X dX6_text_50 ?_
    refine r_icmp_ne (tgt := 59) X dX6_text_51 (by decide) h (fun c12 h => ?_) (fun c12 h => ?_)
    · refine r_aload_n X 0 dX6_text_54 rfl rfl ?_
      obtain ⟨r14, σ15, h13, h⟩ := bd2_some h
      refine r_cV (Wd := 0) X (fun l D sz => w_X6_takeRow l D sz h13) ho0.1 rfl q1583 qs67 q1581 q109 q1584 hy_X6_takeRow rfl dX6_text_55 rfl rfl (Nat.le_of_ble_eq_true rfl) ⟨Nat.le_of_ble_eq_true rfl, Nat.le_of_ble_eq_true rfl⟩ ⟨Nat.le_of_ble_eq_true rfl, Nat.le_of_ble_eq_true rfl⟩ ?_
      cases h
      exact r_iret X hr dX6_text_58
    · refine r_iload_n X 1 dX6_text_59 rfl rfl ?_
      refine r_iconst X dX6_text_60 ?_
      refine r_icmp_ne (tgt := 85) X dX6_text_61 (by decide) h (fun c16 h => ?_) (fun c16 h => ?_)
      · refine r_aload_n X 0 dX6_text_64 rfl rfl ?_
        refine r_getI (kf := 28) X ho0.1 rfl (by decide) rfl (Or.inl q1269) dX6_text_65 ?_
        refine r_bipush X dX6_text_68 (by decide) ?_
        refine r_icmp_eq (tgt := 85) X dX6_text_70 (by decide) h (fun c17 h => ?_) (fun c17 h => ?_)
        · refine r_iconst X dX6_text_85 ?_
          cases h
          exact r_iret X hr dX6_text_86
        · refine r_aload_n X 0 dX6_text_73 rfl rfl ?_
          refine r_aload_n X 0 dX6_text_74 rfl rfl ?_
          refine r_getI (kf := 28) X ho0.1 rfl (by decide) rfl (Or.inl q1269) dX6_text_75 ?_
          obtain ⟨r19, σ20, h18, h⟩ := bd2_some h
          refine r_cV (Wd := 0) X (fun l D sz => w_X6_readHead l D sz h18) ho0.1 rfl q1550 qs60 q1548 q109 q1551 hy_X6_readHead rfl dX6_text_78 rfl rfl (Nat.le_of_ble_eq_true rfl) ⟨Nat.le_of_ble_eq_true rfl, Nat.le_of_ble_eq_true rfl⟩ ⟨Nat.le_of_ble_eq_true rfl, Nat.le_of_ble_eq_true rfl⟩ ?_
          refine r_iconst X dX6_text_81 ?_
          refine r_icmp_eq (tgt := 87) X dX6_text_82 (by decide) h (fun c21 h => ?_) (fun c21 h => ?_)
          · refine r_aload_n X 0 dX6_text_87 rfl rfl ?_
            refine r_iconst X dX6_text_88 ?_
            obtain ⟨ho22, h⟩ := cO_some h
            refine r_putI (kf := 2) X ho22.1 rfl (by decide) rfl rfl (Or.inl q1243) dX6_text_89 rfl ?_
            refine r_let h (fun σ23 eσ23 h => ?_)
            refine r_aload_n X 0 dX6_text_92 rfl rfl ?_
            have hk24 : oc σ23 (a0) 5 := by rw [eσ23]; exact ho22
            refine r_getA (kf := 27) X hk24.1 rfl (by decide) (by decide) (Or.inl q1268) dX6_text_93 ?_
            refine r_aload_n X 0 dX6_text_96 rfl rfl ?_
            refine r_getI (kf := 28) X hk24.1 rfl (by decide) rfl (Or.inl q1269) dX6_text_97 ?_
            refine r_iconst X dX6_text_100 ?_
            refine r_iast X hk24.1 (hk24.2 27 (by decide)) rfl rfl rfl (by decide) dX6_text_101 h (fun h => ?_)
            refine r_let h (fun σ25 eσ25 h => ?_)
            refine r_aload_n X 0 dX6_text_102 rfl rfl ?_
            refine r_aload_n X 0 dX6_text_103 rfl rfl ?_
            have hk26 : oc σ25 (a0) 5 := by rw [eσ25]; exact hk24
            refine r_getI (kf := 28) X hk26.1 rfl (by decide) rfl (Or.inl q1269) dX6_text_104 ?_
            obtain ⟨σ28, h27, h⟩ := bd_some h
            refine r_cV (Wd := 0) X (fun l D sz => w_X6_spread l D sz h27) hk26.1 rfl q1587 qs68 q1585 q109 q1588 hy_X6_spread rfl dX6_text_107 rfl rfl (Nat.le_of_ble_eq_true rfl) ⟨Nat.le_of_ble_eq_true rfl, Nat.le_of_ble_eq_true rfl⟩ ⟨Nat.le_of_ble_eq_true rfl, Nat.le_of_ble_eq_true rfl⟩ ?_
            refine r_aload_n X 0 dX6_text_110 rfl rfl ?_
            refine r_dup X dX6_text_111 rfl ?_
            obtain ⟨ho29, h⟩ := cO_some h
            refine r_getI (kf := 28) X ho29.1 rfl (by decide) rfl (Or.inl q1269) dX6_text_112 ?_
            refine r_iconst X dX6_text_115 ?_
            refine r_iadd X dX6_text_116 ?_
            refine r_putI (kf := 28) X ho29.1 rfl (by decide) rfl rfl (Or.inl q1269) dX6_text_117 rfl ?_
            refine r_let h (fun σ30 eσ30 h => ?_)
            refine r_aload_n X 0 dX6_text_120 rfl rfl ?_
            have hk31 : oc σ30 (a0) 5 := by rw [eσ30]; exact ho29
            refine r_getI (kf := 28) X hk31.1 rfl (by decide) rfl (Or.inl q1269) dX6_text_121 ?_
            refine r_iconst X dX6_text_124 ?_
            refine r_isub X dX6_text_125 ?_
            cases h
            exact r_iret X hr dX6_text_126
          · refine r_iconst X dX6_text_85 ?_
            cases h
            exact r_iret X hr dX6_text_86
      · refine r_iconst X dX6_text_85 ?_
        cases h
        exact r_iret X hr dX6_text_86
theorem hy_X6_isCalendar : yX6_isCalendar.cls ≠ "java/lang/invoke/MethodHandle" ∧ yX6_isCalendar.cls ≠ "java/lang/invoke/VarHandle" ∧ (parseMethodDescriptor yX6_isCalendar.desc).map (fun d => d.parameters.length) = some 1 := by decide +kernel
set_option maxHeartbeats 4000000 in
theorem w_X6_isCalendar (l : Launch) (D : DD) (sz : Nat) {σ : St} {a0 : Nat} {x1 : Int} {w : Int} (h : f_X6_isCalendar σ a0 x1 = some w) : Mt l yX6_isCalendar cX6_isCalendar 2 (some FieldType.boolean) ({ frames := 1, cells := 0, slots := 0, locals := 14 } : Room) D sz σ [.ref a0, iv (x1)] (.returned (some (iv w))) (σ) 0 0 := by
  refine Mt.of (by decide +kernel) (Nat.le_of_ble_eq_true rfl) ?_
  intro Γ X hr hnl hini hnoh
  have X : Cx Γ cX6_isCalendar "DayBoyModel" _ := X
  have hL : ∀ i, i < 2 → i < nLc Γ := fun i q => by rw [hnl]; exact q
  show V Γ σ 0 0 0 [(0, .ref (a0)), (1, iv (x1))] []
  unfold f_X6_isCalendar at h
  obtain ⟨ho0, h⟩ := cO_some h
  refine r_iload_n X 1 dX6_isCalendar_0 rfl rfl ?_
  refine r_iconst X dX6_isCalendar_1 ?_
  refine r_aload_n X 0 dX6_isCalendar_2 rfl rfl ?_
  refine r_getI (kf := 14) X ho0.1 rfl (by decide) rfl (Or.inl q1255) dX6_isCalendar_3 ?_
  refine r_iconst X dX6_isCalendar_6 ?_
  refine r_isub X dX6_isCalendar_7 ?_
  obtain ⟨r2, h1, h⟩ := bd_some h
  refine r_cS (Wd := 0) X (fun l D sz => w_X6_in l D sz h1) q1502 q1501 q109 q1503 hy_X6_in rfl dX6_isCalendar_8 rfl rfl (Nat.le_of_ble_eq_true rfl) ⟨Nat.le_of_ble_eq_true rfl, Nat.le_of_ble_eq_true rfl⟩ ⟨Nat.le_of_ble_eq_true rfl, Nat.le_of_ble_eq_true rfl⟩ ?_
  obtain ⟨c3, h⟩ := ck_some h
  cases h
  exact r_zret X hr (c3) dX6_isCalendar_11
theorem hy_X6_stretchOf : yX6_stretchOf.cls ≠ "java/lang/invoke/MethodHandle" ∧ yX6_stretchOf.cls ≠ "java/lang/invoke/VarHandle" ∧ (parseMethodDescriptor yX6_stretchOf.desc).map (fun d => d.parameters.length) = some 4 := by decide +kernel
set_option maxHeartbeats 4000000 in
theorem w_X6_stretchOf (l : Launch) (D : DD) (sz : Nat) {σ : St} {a0 : Nat} {x1 : Int} {x2 : Int} {x3 : Int} {x4 : Int} {w : Int} (h : f_X6_stretchOf σ a0 x1 x2 x3 x4 = some w) : Mt l yX6_stretchOf cX6_stretchOf 6 (some FieldType.int) ({ frames := 2, cells := 0, slots := 0, locals := 32 } : Room) D sz σ [.ref a0, iv (x1), iv (x2), iv (x3), iv (x4)] (.returned (some (iv w))) (σ) 0 0 := by
  refine Mt.of (by decide +kernel) (Nat.le_of_ble_eq_true rfl) ?_
  intro Γ X hr hnl hini hnoh
  have X : Cx Γ cX6_stretchOf "DayBoyModel" _ := X
  have hL : ∀ i, i < 6 → i < nLc Γ := fun i q => by rw [hnl]; exact q
  show V Γ σ 0 0 0 [(0, .ref (a0)), (1, iv (x1)), (2, iv (x2)), (3, iv (x3)), (4, iv (x4))] []
  unfold f_X6_stretchOf at h
  obtain ⟨ho0, h⟩ := cO_some h
  refine r_aload_n X 0 dX6_stretchOf_0 rfl rfl ?_
  refine r_iload_n X 1 dX6_stretchOf_1 rfl rfl ?_
  obtain ⟨r2, h1, h⟩ := bd_some h
  refine r_cV (Wd := 0) X (fun l D sz => w_X6_isCalendar l D sz h1) ho0.1 rfl q1622 qs75 q1620 q109 q1623 hy_X6_isCalendar rfl dX6_stretchOf_2 rfl rfl (Nat.le_of_ble_eq_true rfl) ⟨Nat.le_of_ble_eq_true rfl, Nat.le_of_ble_eq_true rfl⟩ ⟨Nat.le_of_ble_eq_true rfl, Nat.le_of_ble_eq_true rfl⟩ ?_
  refine r_if_eq (tgt := 40) X dX6_stretchOf_5 (by decide) h (fun c3 h => ?_) (fun c3 h => ?_)
  · refine r_iconst X dX6_stretchOf_40 ?_
    cases h
    exact r_iret X hr dX6_stretchOf_41
  · refine r_iload_n X 2 dX6_stretchOf_8 rfl rfl ?_
    refine r_iconst X dX6_stretchOf_9 ?_
    refine r_sipush X dX6_stretchOf_10 (by decide) ?_
    obtain ⟨r5, h4, h⟩ := bd_some h
    refine r_cS (Wd := 0) X (fun l D sz => w_X6_in l D sz h4) q1502 q1501 q109 q1503 hy_X6_in rfl dX6_stretchOf_13 rfl rfl (Nat.le_of_ble_eq_true rfl) ⟨Nat.le_of_ble_eq_true rfl, Nat.le_of_ble_eq_true rfl⟩ ⟨Nat.le_of_ble_eq_true rfl, Nat.le_of_ble_eq_true rfl⟩ ?_
    refine r_if_eq (tgt := 40) X dX6_stretchOf_16 (by decide) h (fun c6 h => ?_) (fun c6 h => ?_)
    · refine r_iconst X dX6_stretchOf_40 ?_
      cases h
      exact r_iret X hr dX6_stretchOf_41
    · refine r_iload_n X 3 dX6_stretchOf_19 rfl rfl ?_
      refine r_iconst X dX6_stretchOf_20 ?_
      refine r_bipush X dX6_stretchOf_21 (by decide) ?_
      obtain ⟨r8, h7, h⟩ := bd_some h
      refine r_cS (Wd := 0) X (fun l D sz => w_X6_in l D sz h7) q1502 q1501 q109 q1503 hy_X6_in rfl dX6_stretchOf_23 rfl rfl (Nat.le_of_ble_eq_true rfl) ⟨Nat.le_of_ble_eq_true rfl, Nat.le_of_ble_eq_true rfl⟩ ⟨Nat.le_of_ble_eq_true rfl, Nat.le_of_ble_eq_true rfl⟩ ?_
      refine r_if_eq (tgt := 40) X dX6_stretchOf_26 (by decide) h (fun c9 h => ?_) (fun c9 h => ?_)
      · refine r_iconst X dX6_stretchOf_40 ?_
        cases h
        exact r_iret X hr dX6_stretchOf_41
      · refine r_iload X 4 dX6_stretchOf_29 rfl ?_
        refine r_iconst X dX6_stretchOf_31 ?_
        refine r_bipush X dX6_stretchOf_32 (by decide) ?_
        obtain ⟨r11, h10, h⟩ := bd_some h
        refine r_cS (Wd := 0) X (fun l D sz => w_X6_in l D sz h10) q1502 q1501 q109 q1503 hy_X6_in rfl dX6_stretchOf_34 rfl rfl (Nat.le_of_ble_eq_true rfl) ⟨Nat.le_of_ble_eq_true rfl, Nat.le_of_ble_eq_true rfl⟩ ⟨Nat.le_of_ble_eq_true rfl, Nat.le_of_ble_eq_true rfl⟩ ?_
        refine r_if_ne (tgt := 42) X dX6_stretchOf_37 (by decide) h (fun c12 h => ?_) (fun c12 h => ?_)
        · refine r_iconst X dX6_stretchOf_40 ?_
          cases h
          exact r_iret X hr dX6_stretchOf_41
        · refine r_iconst X dX6_stretchOf_42 ?_
          refine r_iload_n X 1 dX6_stretchOf_43 rfl rfl ?_
          refine r_imul X dX6_stretchOf_44 ?_
          refine r_istore X dX6_stretchOf_45 (hL 5 (by decide)) (lv' := [(5, iv ((4 * x1))), (0, .ref (a0)), (1, iv (x1)), (2, iv (x2)), (3, iv (x3)), (4, iv (x4))]) rfl ?_
          have L47 : ∀ s : Int, lp (fun s => f_X6_stretchOf_b47 (σ) (a0) (x1) (x2) (x3) (x4) s) s = some w → V Γ (σ) 0 0 47 [(0, .ref (a0)), (1, iv (x1)), (2, iv (x2)), (3, iv (x3)), (4, iv (x4)), (5, iv (s))] [] := by
            refine lp_rule (P := fun s : Int => V Γ (σ) 0 0 47 [(0, .ref (a0)), (1, iv (x1)), (2, iv (x2)), (3, iv (x3)), (4, iv (x4)), (5, iv (s))] []) ?_
            intro s z1 h ihb1 ihe1
            obtain ⟨v5_1, es⟩ : ∃ q, q = s := ⟨s, rfl⟩
            subst es
            have h : f_X6_stretchOf_b47 (σ) (a0) (x1) (x2) (x3) (x4) v5_1 = some z1 := h
            unfold f_X6_stretchOf_b47 at h
            show V Γ σ 0 0 47 [(0, .ref (a0)), (1, iv (x1)), (2, iv (x2)), (3, iv (x3)), (4, iv (x4)), (5, iv (v5_1))] []
            refine r_iload X 5 dX6_stretchOf_47 rfl ?_
            refine r_iconst X dX6_stretchOf_49 ?_
            refine r_iload_n X 1 dX6_stretchOf_50 rfl rfl ?_
            refine r_imul X dX6_stretchOf_51 ?_
            refine r_aload_n X 0 dX6_stretchOf_52 rfl rfl ?_
            refine r_getA (kf := 6) X ho0.1 rfl (by decide) (by decide) (Or.inl q1247) dX6_stretchOf_53 ?_
            refine r_iload_n X 1 dX6_stretchOf_56 rfl rfl ?_
            refine r_iald X ho0.1 (ho0.2 6 (by decide)) rfl rfl rfl (by decide) dX6_stretchOf_57 h (fun h => ?_)
            refine r_iadd X dX6_stretchOf_58 ?_
            refine r_icmp_ge (tgt := 118) X dX6_stretchOf_59 (by decide) h (fun c13 h => ?_) (fun c13 h => ?_)
            · refine r_iload_n X 2 dX6_stretchOf_62 rfl rfl ?_
              refine r_iload_n X 3 dX6_stretchOf_63 rfl rfl ?_
              refine r_iload X 4 dX6_stretchOf_64 rfl ?_
              obtain ⟨r15, h14, h⟩ := bd_some h
              refine r_cS (Wd := 0) X (fun l D sz => w_X6_code l D sz h14) q1529 q1528 q109 q1530 hy_X6_code rfl dX6_stretchOf_66 rfl rfl (Nat.le_of_ble_eq_true rfl) ⟨Nat.le_of_ble_eq_true rfl, Nat.le_of_ble_eq_true rfl⟩ ⟨Nat.le_of_ble_eq_true rfl, Nat.le_of_ble_eq_true rfl⟩ ?_
              refine r_aload_n X 0 dX6_stretchOf_69 rfl rfl ?_
              refine r_getA (kf := 11) X ho0.1 rfl (by decide) (by decide) (Or.inl q1252) dX6_stretchOf_70 ?_
              refine r_iload X 5 dX6_stretchOf_73 rfl ?_
              refine r_iald X ho0.1 (ho0.2 11 (by decide)) rfl rfl rfl (by decide) dX6_stretchOf_75 h (fun h => ?_)
              refine r_icmp_lt (tgt := 112) X dX6_stretchOf_76 (by decide) h (fun c16 h => ?_) (fun c16 h => ?_)
              · refine r_iinc X 5 dX6_stretchOf_112 rfl (hL 5 (by decide)) (lv' := [(5, iv ((v5_1 + 1))), (0, .ref (a0)), (1, iv (x1)), (2, iv (x2)), (3, iv (x3)), (4, iv (x4))]) rfl ?_
                refine r_goto (tgt := 47) X dX6_stretchOf_115 (by decide) ?_
                exact V.sub [1, 2, 3, 4, 5, 0] rfl (ihb1 _ (Option.some.inj h).symm)
              · refine r_iload_n X 2 dX6_stretchOf_79 rfl rfl ?_
                refine r_iload_n X 3 dX6_stretchOf_80 rfl rfl ?_
                refine r_iload X 4 dX6_stretchOf_81 rfl ?_
                obtain ⟨r18, h17, h⟩ := bd_some h
                refine r_cS (Wd := 0) X (fun l D sz => w_X6_code l D sz h17) q1529 q1528 q109 q1530 hy_X6_code rfl dX6_stretchOf_83 rfl rfl (Nat.le_of_ble_eq_true rfl) ⟨Nat.le_of_ble_eq_true rfl, Nat.le_of_ble_eq_true rfl⟩ ⟨Nat.le_of_ble_eq_true rfl, Nat.le_of_ble_eq_true rfl⟩ ?_
                refine r_aload_n X 0 dX6_stretchOf_86 rfl rfl ?_
                refine r_getA (kf := 10) X ho0.1 rfl (by decide) (by decide) (Or.inl q1251) dX6_stretchOf_87 ?_
                refine r_iload X 5 dX6_stretchOf_90 rfl ?_
                refine r_iald X ho0.1 (ho0.2 10 (by decide)) rfl rfl rfl (by decide) dX6_stretchOf_92 h (fun h => ?_)
                refine r_icmp_gt (tgt := 112) X dX6_stretchOf_93 (by decide) h (fun c19 h => ?_) (fun c19 h => ?_)
                · refine r_iinc X 5 dX6_stretchOf_112 rfl (hL 5 (by decide)) (lv' := [(5, iv ((v5_1 + 1))), (0, .ref (a0)), (1, iv (x1)), (2, iv (x2)), (3, iv (x3)), (4, iv (x4))]) rfl ?_
                  refine r_goto (tgt := 47) X dX6_stretchOf_115 (by decide) ?_
                  exact V.sub [1, 2, 3, 4, 5, 0] rfl (ihb1 _ (Option.some.inj h).symm)
                · refine r_iload X 4 dX6_stretchOf_96 rfl ?_
                  refine r_aload_n X 0 dX6_stretchOf_98 rfl rfl ?_
                  refine r_iload X 5 dX6_stretchOf_99 rfl ?_
                  refine r_iload_n X 2 dX6_stretchOf_101 rfl rfl ?_
                  refine r_iload_n X 3 dX6_stretchOf_102 rfl rfl ?_
                  obtain ⟨r21, h20, h⟩ := bd_some h
                  refine r_cV (Wd := 1) X (fun l D sz => w_X6_daysOf l D sz h20) ho0.1 rfl q1537 qs57 q1535 q109 q1538 hy_X6_daysOf rfl dX6_stretchOf_103 rfl rfl (Nat.le_of_ble_eq_true rfl) ⟨Nat.le_of_ble_eq_true rfl, Nat.le_of_ble_eq_true rfl⟩ ⟨Nat.le_of_ble_eq_true rfl, Nat.le_of_ble_eq_true rfl⟩ ?_
                  refine r_icmp_gt (tgt := 112) X dX6_stretchOf_106 (by decide) h (fun c22 h => ?_) (fun c22 h => ?_)
                  · refine r_iinc X 5 dX6_stretchOf_112 rfl (hL 5 (by decide)) (lv' := [(5, iv ((v5_1 + 1))), (0, .ref (a0)), (1, iv (x1)), (2, iv (x2)), (3, iv (x3)), (4, iv (x4))]) rfl ?_
                    refine r_goto (tgt := 47) X dX6_stretchOf_115 (by decide) ?_
                    exact V.sub [1, 2, 3, 4, 5, 0] rfl (ihb1 _ (Option.some.inj h).symm)
                  · have h := ex_some h ihe1
                    refine r_iload X 5 dX6_stretchOf_109 rfl ?_
                    cases h
                    exact r_iret X hr dX6_stretchOf_111
            · have h := ex_some h ihe1
              refine r_iconst X dX6_stretchOf_118 ?_
              cases h
              exact r_iret X hr dX6_stretchOf_119
          exact V.sub [1, 2, 3, 4, 5, 0] rfl (L47 ((4 * x1)) h)
theorem hy_X6_isDate : yX6_isDate.cls ≠ "java/lang/invoke/MethodHandle" ∧ yX6_isDate.cls ≠ "java/lang/invoke/VarHandle" ∧ (parseMethodDescriptor yX6_isDate.desc).map (fun d => d.parameters.length) = some 4 := by decide +kernel
set_option maxHeartbeats 4000000 in
theorem w_X6_isDate (l : Launch) (D : DD) (sz : Nat) {σ : St} {a0 : Nat} {x1 : Int} {x2 : Int} {x3 : Int} {x4 : Int} {w : Int} (h : f_X6_isDate σ a0 x1 x2 x3 x4 = some w) : Mt l yX6_isDate cX6_isDate 5 (some FieldType.boolean) ({ frames := 3, cells := 0, slots := 0, locals := 49 } : Room) D sz σ [.ref a0, iv (x1), iv (x2), iv (x3), iv (x4)] (.returned (some (iv w))) (σ) 0 0 := by
  refine Mt.of (by decide +kernel) (Nat.le_of_ble_eq_true rfl) ?_
  intro Γ X hr hnl hini hnoh
  have X : Cx Γ cX6_isDate "DayBoyModel" _ := X
  have hL : ∀ i, i < 5 → i < nLc Γ := fun i q => by rw [hnl]; exact q
  show V Γ σ 0 0 0 [(0, .ref (a0)), (1, iv (x1)), (2, iv (x2)), (3, iv (x3)), (4, iv (x4))] []
  unfold f_X6_isDate at h
  obtain ⟨ho0, h⟩ := cO_some h
  refine r_aload_n X 0 dX6_isDate_0 rfl rfl ?_
  refine r_iload_n X 1 dX6_isDate_1 rfl rfl ?_
  refine r_iload_n X 2 dX6_isDate_2 rfl rfl ?_
  refine r_iload_n X 3 dX6_isDate_3 rfl rfl ?_
  refine r_iload X 4 dX6_isDate_4 rfl ?_
  obtain ⟨r2, h1, h⟩ := bd_some h
  refine r_cV (Wd := 0) X (fun l D sz => w_X6_stretchOf l D sz h1) ho0.1 rfl q1618 qs74 q1616 q109 q1619 hy_X6_stretchOf rfl dX6_isDate_6 rfl rfl (Nat.le_of_ble_eq_true rfl) ⟨Nat.le_of_ble_eq_true rfl, Nat.le_of_ble_eq_true rfl⟩ ⟨Nat.le_of_ble_eq_true rfl, Nat.le_of_ble_eq_true rfl⟩ ?_
  refine r_iconst X dX6_isDate_9 ?_
  refine r_icmp_eq (tgt := 17) X dX6_isDate_10 (by decide) h (fun c3 h => ?_) (fun c3 h => ?_)
  · refine r_iconst X dX6_isDate_17 ?_
    cases h
    exact r_zret X hr (by decide) dX6_isDate_18
  · refine r_iconst X dX6_isDate_13 ?_
    refine r_goto (tgt := 18) X dX6_isDate_14 (by decide) ?_
    cases h
    exact r_zret X hr (by decide) dX6_isDate_18
theorem hy_X6_dayOf : yX6_dayOf.cls ≠ "java/lang/invoke/MethodHandle" ∧ yX6_dayOf.cls ≠ "java/lang/invoke/VarHandle" ∧ (parseMethodDescriptor yX6_dayOf.desc).map (fun d => d.parameters.length) = some 4 := by decide +kernel
set_option maxHeartbeats 4000000 in
theorem w_X6_dayOf (l : Launch) (D : DD) (sz : Nat) {σ : St} {a0 : Nat} {x1 : Int} {x2 : Int} {x3 : Int} {x4 : Int} {w : Int} (h : f_X6_dayOf σ a0 x1 x2 x3 x4 = some w) : Mt l yX6_dayOf cX6_dayOf 6 (some FieldType.int) ({ frames := 3, cells := 0, slots := 0, locals := 51 } : Room) D sz σ [.ref a0, iv (x1), iv (x2), iv (x3), iv (x4)] (.returned (some (iv w))) (σ) 0 0 := by
  refine Mt.of (by decide +kernel) (Nat.le_of_ble_eq_true rfl) ?_
  intro Γ X hr hnl hini hnoh
  have X : Cx Γ cX6_dayOf "DayBoyModel" _ := X
  have hL : ∀ i, i < 6 → i < nLc Γ := fun i q => by rw [hnl]; exact q
  show V Γ σ 0 0 0 [(0, .ref (a0)), (1, iv (x1)), (2, iv (x2)), (3, iv (x3)), (4, iv (x4))] []
  unfold f_X6_dayOf at h
  obtain ⟨ho0, h⟩ := cO_some h
  refine r_aload_n X 0 dX6_dayOf_0 rfl rfl ?_
  refine r_iload_n X 1 dX6_dayOf_1 rfl rfl ?_
  refine r_iload_n X 2 dX6_dayOf_2 rfl rfl ?_
  refine r_iload_n X 3 dX6_dayOf_3 rfl rfl ?_
  refine r_iload X 4 dX6_dayOf_4 rfl ?_
  obtain ⟨r2, h1, h⟩ := bd_some h
  refine r_cV (Wd := 0) X (fun l D sz => w_X6_stretchOf l D sz h1) ho0.1 rfl q1618 qs74 q1616 q109 q1619 hy_X6_stretchOf rfl dX6_dayOf_6 rfl rfl (Nat.le_of_ble_eq_true rfl) ⟨Nat.le_of_ble_eq_true rfl, Nat.le_of_ble_eq_true rfl⟩ ⟨Nat.le_of_ble_eq_true rfl, Nat.le_of_ble_eq_true rfl⟩ ?_
  refine r_istore X dX6_dayOf_9 (hL 5 (by decide)) (lv' := [(5, iv (r2)), (0, .ref (a0)), (1, iv (x1)), (2, iv (x2)), (3, iv (x3)), (4, iv (x4))]) rfl ?_
  refine r_aload_n X 1 dX6_dayOf_11 rfl rfl ?_
  refine r_getA (kf := 12) X ho0.1 rfl (by decide) (by decide) (Or.inl q1253) dX6_dayOf_12 ?_
  refine r_iload X 0 dX6_dayOf_15 rfl ?_
  refine r_iald X ho0.1 (ho0.2 12 (by decide)) rfl rfl rfl (by decide) dX6_dayOf_17 h (fun h => ?_)
  refine r_aload_n X 1 dX6_dayOf_18 rfl rfl ?_
  refine r_iload X 0 dX6_dayOf_19 rfl ?_
  refine r_iload_n X 3 dX6_dayOf_21 rfl rfl ?_
  refine r_iload_n X 4 dX6_dayOf_22 rfl rfl ?_
  refine r_iload X 5 dX6_dayOf_23 rfl ?_
  obtain ⟨r4, h3, h⟩ := bd_some h
  refine r_cS (Wd := 3) X (fun l D sz => w_X6_code l D sz h3) q1529 q1528 q109 q1530 hy_X6_code rfl dX6_dayOf_25 rfl rfl (Nat.le_of_ble_eq_true rfl) ⟨Nat.le_of_ble_eq_true rfl, Nat.le_of_ble_eq_true rfl⟩ ⟨Nat.le_of_ble_eq_true rfl, Nat.le_of_ble_eq_true rfl⟩ ?_
  obtain ⟨r6, h5, h⟩ := bd_some h
  refine r_cV (Wd := 1) X (fun l D sz => w_X6_ordinal l D sz h5) ho0.1 rfl q1541 qs58 q1539 q109 q1542 hy_X6_ordinal rfl dX6_dayOf_28 rfl rfl (Nat.le_of_ble_eq_true rfl) ⟨Nat.le_of_ble_eq_true rfl, Nat.le_of_ble_eq_true rfl⟩ ⟨Nat.le_of_ble_eq_true rfl, Nat.le_of_ble_eq_true rfl⟩ ?_
  refine r_iadd X dX6_dayOf_31 ?_
  refine r_aload_n X 1 dX6_dayOf_32 rfl rfl ?_
  refine r_iload X 0 dX6_dayOf_33 rfl ?_
  refine r_aload_n X 1 dX6_dayOf_35 rfl rfl ?_
  refine r_getA (kf := 11) X ho0.1 rfl (by decide) (by decide) (Or.inl q1252) dX6_dayOf_36 ?_
  refine r_iload X 0 dX6_dayOf_39 rfl ?_
  refine r_iald X ho0.1 (ho0.2 11 (by decide)) rfl rfl rfl (by decide) dX6_dayOf_41 h (fun h => ?_)
  obtain ⟨r8, h7, h⟩ := bd_some h
  refine r_cV (Wd := 1) X (fun l D sz => w_X6_ordinal l D sz h7) ho0.1 rfl q1541 qs58 q1539 q109 q1542 hy_X6_ordinal rfl dX6_dayOf_42 rfl rfl (Nat.le_of_ble_eq_true rfl) ⟨Nat.le_of_ble_eq_true rfl, Nat.le_of_ble_eq_true rfl⟩ ⟨Nat.le_of_ble_eq_true rfl, Nat.le_of_ble_eq_true rfl⟩ ?_
  refine r_isub X dX6_dayOf_45 ?_
  cases h
  exact r_iret X hr dX6_dayOf_46
theorem hy_X6_day : yX6_day.cls ≠ "java/lang/invoke/MethodHandle" ∧ yX6_day.cls ≠ "java/lang/invoke/VarHandle" ∧ (parseMethodDescriptor yX6_day.desc).map (fun d => d.parameters.length) = some 4 := by decide +kernel
set_option maxHeartbeats 4000000 in
theorem w_X6_day (l : Launch) (D : DD) (sz : Nat) {σ : St} {a0 : Nat} {x1 : Int} {x2 : Int} {x3 : Int} {x4 : Int} {w : Int × St} (h : f_X6_day σ a0 x1 x2 x3 x4 = some w) : Mt l yX6_day cX6_day 5 (some FieldType.int) ({ frames := 4, cells := 0, slots := 0, locals := 68 } : Room) D sz σ [.ref a0, iv (x1), iv (x2), iv (x3), iv (x4)] (.returned (some (iv w.1))) (w.2) 0 0 := by
  refine Mt.of (by decide +kernel) (Nat.le_of_ble_eq_true rfl) ?_
  intro Γ X hr hnl hini hnoh
  have X : Cx Γ cX6_day "DayBoyModel" _ := X
  have hL : ∀ i, i < 5 → i < nLc Γ := fun i q => by rw [hnl]; exact q
  show V Γ σ 0 0 0 [(0, .ref (a0)), (1, iv (x1)), (2, iv (x2)), (3, iv (x3)), (4, iv (x4))] []
  unfold f_X6_day at h
  obtain ⟨ho0, h⟩ := cO_some h
  have J18 : ∀ (t0_j18 : Int) (t1_j18 : Nat) (σ_j18 : St), f_X6_day_j18 (a0) (x1) (x2) (x3) (x4) t0_j18 t1_j18 σ_j18 = some w → V Γ σ_j18 0 0 18 [(0, .ref (a0)), (1, iv (x1)), (2, iv (x2)), (3, iv (x3)), (4, iv (x4))] [iv (t0_j18), .ref (t1_j18)] := by
    intro t0_j18 t1_j18 σ_j18 h
    unfold f_X6_day_j18 at h
    obtain ⟨ho1, h⟩ := cO_some h
    refine r_putI (kf := 0) X ho1.1 rfl (by decide) rfl rfl (Or.inl q1241) dX6_day_18 rfl ?_
    refine r_let h (fun σ2 eσ2 h => ?_)
    refine r_aload_n X 0 dX6_day_21 rfl rfl ?_
    obtain ⟨ho3, h⟩ := cO_some h
    refine r_getI (kf := 0) X ho3.1 rfl (by decide) rfl (Or.inl q1241) dX6_day_22 ?_
    refine r_iconst X dX6_day_25 ?_
    refine r_icmp_ne (tgt := 33) X dX6_day_26 (by decide) h (fun c4 h => ?_) (fun c4 h => ?_)
    · refine r_iconst X dX6_day_29 ?_
      refine r_goto (tgt := 42) X dX6_day_30 (by decide) ?_
      cases h
      exact r_iret X hr dX6_day_42
    · refine r_aload_n X 0 dX6_day_33 rfl rfl ?_
      refine r_iload_n X 1 dX6_day_34 rfl rfl ?_
      refine r_iload_n X 2 dX6_day_35 rfl rfl ?_
      refine r_iload_n X 3 dX6_day_36 rfl rfl ?_
      refine r_iload X 4 dX6_day_37 rfl ?_
      obtain ⟨r6, h5, h⟩ := bd_some h
      refine r_cV (Wd := 0) X (fun l D sz => w_X6_dayOf l D sz h5) ho3.1 rfl q1626 qs76 q1624 q109 q1627 hy_X6_dayOf rfl dX6_day_39 rfl rfl (Nat.le_of_ble_eq_true rfl) ⟨Nat.le_of_ble_eq_true rfl, Nat.le_of_ble_eq_true rfl⟩ ⟨Nat.le_of_ble_eq_true rfl, Nat.le_of_ble_eq_true rfl⟩ ?_
      cases h
      exact r_iret X hr dX6_day_42
  refine r_aload_n X 0 dX6_day_0 rfl rfl ?_
  refine r_aload_n X 0 dX6_day_1 rfl rfl ?_
  refine r_iload_n X 1 dX6_day_2 rfl rfl ?_
  refine r_iload_n X 2 dX6_day_3 rfl rfl ?_
  refine r_iload_n X 3 dX6_day_4 rfl rfl ?_
  refine r_iload X 4 dX6_day_5 rfl ?_
  obtain ⟨r8, h7, h⟩ := bd_some h
  refine r_cV (Wd := 1) X (fun l D sz => w_X6_isDate l D sz h7) ho0.1 rfl q1614 qs73 q1612 q109 q1615 hy_X6_isDate rfl dX6_day_7 rfl rfl (Nat.le_of_ble_eq_true rfl) ⟨Nat.le_of_ble_eq_true rfl, Nat.le_of_ble_eq_true rfl⟩ ⟨Nat.le_of_ble_eq_true rfl, Nat.le_of_ble_eq_true rfl⟩ ?_
  refine r_if_eq (tgt := 17) X dX6_day_10 (by decide) h (fun c9 h => ?_) (fun c9 h => ?_)
  · refine r_iconst X dX6_day_17 ?_
    exact V.sub [0, 1, 2, 3, 4] rfl (J18 (1) (a0) (σ) h)
  · refine r_iconst X dX6_day_13 ?_
    refine r_goto (tgt := 18) X dX6_day_14 (by decide) ?_
    exact V.sub [0, 1, 2, 3, 4] rfl (J18 (0) (a0) (σ) h)
theorem hy_X6_dateOf : yX6_dateOf.cls ≠ "java/lang/invoke/MethodHandle" ∧ yX6_dateOf.cls ≠ "java/lang/invoke/VarHandle" ∧ (parseMethodDescriptor yX6_dateOf.desc).map (fun d => d.parameters.length) = some 2 := by decide +kernel
set_option maxHeartbeats 4000000 in
theorem w_X6_dateOf (l : Launch) (D : DD) (sz : Nat) {σ : St} {a0 : Nat} {x1 : Int} {x2 : Int} {w : Int} (h : f_X6_dateOf σ a0 x1 x2 = some w) : Mt l yX6_dateOf cX6_dateOf 6 (some FieldType.int) ({ frames := 3, cells := 0, slots := 0, locals := 51 } : Room) D sz σ [.ref a0, iv (x1), iv (x2)] (.returned (some (iv w))) (σ) 0 0 := by
  refine Mt.of (by decide +kernel) (Nat.le_of_ble_eq_true rfl) ?_
  intro Γ X hr hnl hini hnoh
  have X : Cx Γ cX6_dateOf "DayBoyModel" _ := X
  have hL : ∀ i, i < 6 → i < nLc Γ := fun i q => by rw [hnl]; exact q
  show V Γ σ 0 0 0 [(0, .ref (a0)), (1, iv (x1)), (2, iv (x2))] []
  unfold f_X6_dateOf at h
  obtain ⟨ho0, h⟩ := cO_some h
  refine r_iconst X dX6_dateOf_0 ?_
  refine r_iload_n X 1 dX6_dateOf_1 rfl rfl ?_
  refine r_imul X dX6_dateOf_2 ?_
  refine r_istore_n X dX6_dateOf_3 rfl (hL 3 (by decide)) (lv' := [(3, iv ((4 * x1))), (0, .ref (a0)), (1, iv (x1)), (2, iv (x2))]) rfl ?_
  have L4 : ∀ s : Int, lp (fun s => f_X6_dateOf_b4 (σ) (a0) (x1) (x2) s) s = some w → V Γ (σ) 0 0 4 [(0, .ref (a0)), (1, iv (x1)), (2, iv (x2)), (3, iv (s))] [] := by
    refine lp_rule (P := fun s : Int => V Γ (σ) 0 0 4 [(0, .ref (a0)), (1, iv (x1)), (2, iv (x2)), (3, iv (s))] []) ?_
    intro s z1 h ihb1 ihe1
    obtain ⟨v3_1, es⟩ : ∃ q, q = s := ⟨s, rfl⟩
    subst es
    have h : f_X6_dateOf_b4 (σ) (a0) (x1) (x2) v3_1 = some z1 := h
    unfold f_X6_dateOf_b4 at h
    show V Γ σ 0 0 4 [(0, .ref (a0)), (1, iv (x1)), (2, iv (x2)), (3, iv (v3_1))] []
    have J86 : ∀ (v3_j86 : Int) (v4_j86 : Int) (t0_j86 : Int), f_X6_dateOf_j86 (σ) (a0) (x1) (x2) v3_j86 v4_j86 t0_j86 = some z1 → V Γ σ 0 0 86 [(0, .ref (a0)), (1, iv (x1)), (2, iv (x2)), (3, iv (v3_j86)), (4, iv (v4_j86))] [iv (t0_j86)] := by
      intro v3_j86 v4_j86 t0_j86 h
      unfold f_X6_dateOf_j86 at h
      refine r_istore X dX6_dateOf_86 (hL 5 (by decide)) (lv' := [(5, iv (t0_j86)), (0, .ref (a0)), (1, iv (x1)), (2, iv (x2)), (3, iv (v3_j86)), (4, iv (v4_j86))]) rfl ?_
      refine r_iload X 0 dX6_dateOf_88 rfl ?_
      refine r_if_eq (tgt := 110) X dX6_dateOf_90 (by decide) h (fun c1 h => ?_) (fun c1 h => ?_)
      · refine r_iinc X 4 dX6_dateOf_110 rfl (hL 3 (by decide)) (lv' := [(3, iv ((v3_j86 + 1))), (5, iv (t0_j86)), (0, .ref (a0)), (1, iv (x1)), (2, iv (x2)), (4, iv (v4_j86))]) rfl ?_
        refine r_goto (tgt := 4) X dX6_dateOf_113 (by decide) ?_
        exact V.sub [2, 3, 4, 0] rfl (ihb1 _ (Option.some.inj h).symm)
      · have h := ex_some h ihe1
        refine r_aload_n X 1 dX6_dateOf_93 rfl rfl ?_
        refine r_iload_n X 4 dX6_dateOf_94 rfl rfl ?_
        refine r_iload_n X 3 dX6_dateOf_95 rfl rfl ?_
        refine r_aload_n X 1 dX6_dateOf_96 rfl rfl ?_
        refine r_getA (kf := 12) X ho0.1 rfl (by decide) (by decide) (Or.inl q1253) dX6_dateOf_97 ?_
        refine r_iload_n X 4 dX6_dateOf_100 rfl rfl ?_
        refine r_iald X ho0.1 (ho0.2 12 (by decide)) rfl rfl rfl (by decide) dX6_dateOf_101 h (fun h => ?_)
        refine r_isub X dX6_dateOf_102 ?_
        refine r_iload X 5 dX6_dateOf_103 rfl ?_
        refine r_iadd X dX6_dateOf_105 ?_
        obtain ⟨r3, h2, h⟩ := bd_some h
        refine r_cV (Wd := 0) X (fun l D sz => w_X6_dated l D sz h2) ho0.1 rfl q1546 qs59 q1544 q109 q1547 hy_X6_dated rfl dX6_dateOf_106 rfl rfl (Nat.le_of_ble_eq_true rfl) ⟨Nat.le_of_ble_eq_true rfl, Nat.le_of_ble_eq_true rfl⟩ ⟨Nat.le_of_ble_eq_true rfl, Nat.le_of_ble_eq_true rfl⟩ ?_
        cases h
        exact r_iret X hr dX6_dateOf_109
    have J85 : ∀ (v3_j85 : Int) (v4_j85 : Int), f_X6_dateOf_j85 (σ) (a0) (x1) (x2) v3_j85 v4_j85 = some z1 → V Γ σ 0 0 85 [(0, .ref (a0)), (1, iv (x1)), (2, iv (x2)), (3, iv (v3_j85)), (4, iv (v4_j85))] [] := by
      intro v3_j85 v4_j85 h
      unfold f_X6_dateOf_j85 at h
      refine r_iconst X dX6_dateOf_85 ?_
      exact V.sub [0, 1, 2, 3, 4] rfl (J86 (v3_j85) (v4_j85) (0) h)
    refine r_iload_n X 3 dX6_dateOf_4 rfl rfl ?_
    refine r_iconst X dX6_dateOf_5 ?_
    refine r_iload_n X 1 dX6_dateOf_6 rfl rfl ?_
    refine r_imul X dX6_dateOf_7 ?_
    refine r_aload_n X 0 dX6_dateOf_8 rfl rfl ?_
    refine r_getA (kf := 6) X ho0.1 rfl (by decide) (by decide) (Or.inl q1247) dX6_dateOf_9 ?_
    refine r_iload_n X 1 dX6_dateOf_12 rfl rfl ?_
    refine r_iald X ho0.1 (ho0.2 6 (by decide)) rfl rfl rfl (by decide) dX6_dateOf_13 h (fun h => ?_)
    refine r_iadd X dX6_dateOf_14 ?_
    refine r_icmp_ge (tgt := 116) X dX6_dateOf_15 (by decide) h (fun c4 h => ?_) (fun c4 h => ?_)
    · refine r_aload_n X 0 dX6_dateOf_18 rfl rfl ?_
      refine r_iload_n X 3 dX6_dateOf_19 rfl rfl ?_
      refine r_aload_n X 0 dX6_dateOf_20 rfl rfl ?_
      refine r_getA (kf := 11) X ho0.1 rfl (by decide) (by decide) (Or.inl q1252) dX6_dateOf_21 ?_
      refine r_iload_n X 3 dX6_dateOf_24 rfl rfl ?_
      refine r_iald X ho0.1 (ho0.2 11 (by decide)) rfl rfl rfl (by decide) dX6_dateOf_25 h (fun h => ?_)
      obtain ⟨r6, h5, h⟩ := bd_some h
      refine r_cV (Wd := 0) X (fun l D sz => w_X6_ordinal l D sz h5) ho0.1 rfl q1541 qs58 q1539 q109 q1542 hy_X6_ordinal rfl dX6_dateOf_26 rfl rfl (Nat.le_of_ble_eq_true rfl) ⟨Nat.le_of_ble_eq_true rfl, Nat.le_of_ble_eq_true rfl⟩ ⟨Nat.le_of_ble_eq_true rfl, Nat.le_of_ble_eq_true rfl⟩ ?_
      refine r_istore X dX6_dateOf_29 (hL 4 (by decide)) (lv' := [(4, iv (r6)), (0, .ref (a0)), (1, iv (x1)), (2, iv (x2)), (3, iv (v3_1))]) rfl ?_
      refine r_aload_n X 1 dX6_dateOf_31 rfl rfl ?_
      refine r_getA (kf := 10) X ho0.1 rfl (by decide) (by decide) (Or.inl q1251) dX6_dateOf_32 ?_
      refine r_iload_n X 4 dX6_dateOf_35 rfl rfl ?_
      refine r_iald X ho0.1 (ho0.2 10 (by decide)) rfl rfl rfl (by decide) dX6_dateOf_36 h (fun h => ?_)
      refine r_aload_n X 1 dX6_dateOf_37 rfl rfl ?_
      refine r_getA (kf := 11) X ho0.1 rfl (by decide) (by decide) (Or.inl q1252) dX6_dateOf_38 ?_
      refine r_iload_n X 4 dX6_dateOf_41 rfl rfl ?_
      refine r_iald X ho0.1 (ho0.2 11 (by decide)) rfl rfl rfl (by decide) dX6_dateOf_42 h (fun h => ?_)
      refine r_icmp_lt (tgt := 85) X dX6_dateOf_43 (by decide) h (fun c7 h => ?_) (fun c7 h => ?_)
      · exact V.sub [1, 2, 3, 4, 0] rfl (J85 (v3_1) (r6) h)
      · refine r_iload_n X 3 dX6_dateOf_46 rfl rfl ?_
        refine r_aload_n X 1 dX6_dateOf_47 rfl rfl ?_
        refine r_getA (kf := 12) X ho0.1 rfl (by decide) (by decide) (Or.inl q1253) dX6_dateOf_48 ?_
        refine r_iload_n X 4 dX6_dateOf_51 rfl rfl ?_
        refine r_iald X ho0.1 (ho0.2 12 (by decide)) rfl rfl rfl (by decide) dX6_dateOf_52 h (fun h => ?_)
        refine r_icmp_lt (tgt := 85) X dX6_dateOf_53 (by decide) h (fun c8 h => ?_) (fun c8 h => ?_)
        · exact V.sub [1, 2, 3, 4, 0] rfl (J85 (v3_1) (r6) h)
        · refine r_iload_n X 3 dX6_dateOf_56 rfl rfl ?_
          refine r_aload_n X 1 dX6_dateOf_57 rfl rfl ?_
          refine r_getA (kf := 12) X ho0.1 rfl (by decide) (by decide) (Or.inl q1253) dX6_dateOf_58 ?_
          refine r_iload_n X 4 dX6_dateOf_61 rfl rfl ?_
          refine r_iald X ho0.1 (ho0.2 12 (by decide)) rfl rfl rfl (by decide) dX6_dateOf_62 h (fun h => ?_)
          refine r_isub X dX6_dateOf_63 ?_
          refine r_aload_n X 1 dX6_dateOf_64 rfl rfl ?_
          refine r_iload_n X 4 dX6_dateOf_65 rfl rfl ?_
          refine r_aload_n X 1 dX6_dateOf_66 rfl rfl ?_
          refine r_getA (kf := 10) X ho0.1 rfl (by decide) (by decide) (Or.inl q1251) dX6_dateOf_67 ?_
          refine r_iload_n X 4 dX6_dateOf_70 rfl rfl ?_
          refine r_iald X ho0.1 (ho0.2 10 (by decide)) rfl rfl rfl (by decide) dX6_dateOf_71 h (fun h => ?_)
          obtain ⟨r10, h9, h⟩ := bd_some h
          refine r_cV (Wd := 1) X (fun l D sz => w_X6_ordinal l D sz h9) ho0.1 rfl q1541 qs58 q1539 q109 q1542 hy_X6_ordinal rfl dX6_dateOf_72 rfl rfl (Nat.le_of_ble_eq_true rfl) ⟨Nat.le_of_ble_eq_true rfl, Nat.le_of_ble_eq_true rfl⟩ ⟨Nat.le_of_ble_eq_true rfl, Nat.le_of_ble_eq_true rfl⟩ ?_
          refine r_iload X 0 dX6_dateOf_75 rfl ?_
          refine r_isub X dX6_dateOf_77 ?_
          refine r_icmp_gt (tgt := 85) X dX6_dateOf_78 (by decide) h (fun c11 h => ?_) (fun c11 h => ?_)
          · exact V.sub [1, 2, 3, 4, 0] rfl (J85 (v3_1) (r6) h)
          · refine r_iconst X dX6_dateOf_81 ?_
            refine r_goto (tgt := 86) X dX6_dateOf_82 (by decide) ?_
            exact V.sub [1, 2, 3, 4, 0] rfl (J86 (v3_1) (r6) (1) h)
    · have h := ex_some h ihe1
      refine r_iconst X dX6_dateOf_116 ?_
      cases h
      exact r_iret X hr dX6_dateOf_117
  exact V.sub [1, 2, 3, 0] rfl (L4 ((4 * x1)) h)
theorem hy_X6_partOf : yX6_partOf.cls ≠ "java/lang/invoke/MethodHandle" ∧ yX6_partOf.cls ≠ "java/lang/invoke/VarHandle" ∧ (parseMethodDescriptor yX6_partOf.desc).map (fun d => d.parameters.length) = some 2 := by decide +kernel
set_option maxHeartbeats 4000000 in
theorem w_X6_partOf (l : Launch) (D : DD) (sz : Nat) {σ : St} {x0 : Int} {x1 : Int} {w : Int} (h : f_X6_partOf σ x0 x1 = some w) : Mt l yX6_partOf cX6_partOf 2 (some FieldType.int) ({ frames := 0, cells := 0, slots := 0, locals := 0 } : Room) D sz σ [iv (x0), iv (x1)] (.returned (some (iv w))) (σ) 0 0 := by
  refine Mt.of (by decide +kernel) (Nat.le_of_ble_eq_true rfl) ?_
  intro Γ X hr hnl hini hnoh
  have X : Cx Γ cX6_partOf "DayBoyModel" _ := X
  have hL : ∀ i, i < 2 → i < nLc Γ := fun i q => by rw [hnl]; exact q
  show V Γ σ 0 0 0 [(0, iv (x0)), (1, iv (x1))] []
  unfold f_X6_partOf at h
  refine r_iload_n X 1 dX6_partOf_0 rfl rfl ?_
  refine r_if_ne (tgt := 12) X dX6_partOf_1 (by decide) h (fun c1 h => ?_) (fun c1 h => ?_)
  · refine r_iload_n X 0 dX6_partOf_4 rfl rfl ?_
    refine r_sipush X dX6_partOf_5 (by decide) ?_
    obtain ⟨c2, h⟩ := ck_some h
    refine r_idiv X dX6_partOf_8 c2 (by decide) (by decide) ?_
    refine r_goto (tgt := 31) X dX6_partOf_9 (by decide) ?_
    cases h
    exact r_iret X hr dX6_partOf_31
  · refine r_iload_n X 1 dX6_partOf_12 rfl rfl ?_
    refine r_iconst X dX6_partOf_13 ?_
    refine r_icmp_ne (tgt := 27) X dX6_partOf_14 (by decide) h (fun c3 h => ?_) (fun c3 h => ?_)
    · refine r_iload_n X 0 dX6_partOf_17 rfl rfl ?_
      refine r_bipush X dX6_partOf_18 (by decide) ?_
      obtain ⟨c4, h⟩ := ck_some h
      refine r_idiv X dX6_partOf_20 c4 (by decide) (by decide) ?_
      refine r_bipush X dX6_partOf_21 (by decide) ?_
      obtain ⟨c5, h⟩ := ck_some h
      refine r_irem X dX6_partOf_23 c5 (by decide) (by decide) ?_
      refine r_goto (tgt := 31) X dX6_partOf_24 (by decide) ?_
      cases h
      exact r_iret X hr dX6_partOf_31
    · refine r_iload_n X 0 dX6_partOf_27 rfl rfl ?_
      refine r_bipush X dX6_partOf_28 (by decide) ?_
      obtain ⟨c6, h⟩ := ck_some h
      refine r_irem X dX6_partOf_30 c6 (by decide) (by decide) ?_
      cases h
      exact r_iret X hr dX6_partOf_31
theorem hy_X6_date : yX6_date.cls ≠ "java/lang/invoke/MethodHandle" ∧ yX6_date.cls ≠ "java/lang/invoke/VarHandle" ∧ (parseMethodDescriptor yX6_date.desc).map (fun d => d.parameters.length) = some 3 := by decide +kernel
set_option maxHeartbeats 4000000 in
theorem w_X6_date (l : Launch) (D : DD) (sz : Nat) {σ : St} {a0 : Nat} {x1 : Int} {x2 : Int} {x3 : Int} {w : Int} (h : f_X6_date σ a0 x1 x2 x3 = some w) : Mt l yX6_date cX6_date 5 (some FieldType.int) ({ frames := 4, cells := 0, slots := 0, locals := 68 } : Room) D sz σ [.ref a0, iv (x1), iv (x2), iv (x3)] (.returned (some (iv w))) (σ) 0 0 := by
  refine Mt.of (by decide +kernel) (Nat.le_of_ble_eq_true rfl) ?_
  intro Γ X hr hnl hini hnoh
  have X : Cx Γ cX6_date "DayBoyModel" _ := X
  have hL : ∀ i, i < 5 → i < nLc Γ := fun i q => by rw [hnl]; exact q
  show V Γ σ 0 0 0 [(0, .ref (a0)), (1, iv (x1)), (2, iv (x2)), (3, iv (x3))] []
  unfold f_X6_date at h
  obtain ⟨ho0, h⟩ := cO_some h
  refine r_aload_n X 0 dX6_date_0 rfl rfl ?_
  refine r_iload_n X 1 dX6_date_1 rfl rfl ?_
  obtain ⟨r2, h1, h⟩ := bd_some h
  refine r_cV (Wd := 0) X (fun l D sz => w_X6_isCalendar l D sz h1) ho0.1 rfl q1622 qs75 q1620 q109 q1623 hy_X6_isCalendar rfl dX6_date_2 rfl rfl (Nat.le_of_ble_eq_true rfl) ⟨Nat.le_of_ble_eq_true rfl, Nat.le_of_ble_eq_true rfl⟩ ⟨Nat.le_of_ble_eq_true rfl, Nat.le_of_ble_eq_true rfl⟩ ?_
  refine r_if_eq (tgt := 17) X dX6_date_5 (by decide) h (fun c3 h => ?_) (fun c3 h => ?_)
  · refine r_iconst X dX6_date_17 ?_
    cases h
    exact r_iret X hr dX6_date_18
  · refine r_iload_n X 3 dX6_date_8 rfl rfl ?_
    refine r_iconst X dX6_date_9 ?_
    refine r_iconst X dX6_date_10 ?_
    obtain ⟨r5, h4, h⟩ := bd_some h
    refine r_cS (Wd := 0) X (fun l D sz => w_X6_in l D sz h4) q1502 q1501 q109 q1503 hy_X6_in rfl dX6_date_11 rfl rfl (Nat.le_of_ble_eq_true rfl) ⟨Nat.le_of_ble_eq_true rfl, Nat.le_of_ble_eq_true rfl⟩ ⟨Nat.le_of_ble_eq_true rfl, Nat.le_of_ble_eq_true rfl⟩ ?_
    refine r_if_ne (tgt := 19) X dX6_date_14 (by decide) h (fun c6 h => ?_) (fun c6 h => ?_)
    · refine r_iconst X dX6_date_17 ?_
      cases h
      exact r_iret X hr dX6_date_18
    · refine r_aload_n X 0 dX6_date_19 rfl rfl ?_
      refine r_iload_n X 1 dX6_date_20 rfl rfl ?_
      refine r_iload_n X 2 dX6_date_21 rfl rfl ?_
      obtain ⟨r8, h7, h⟩ := bd_some h
      refine r_cV (Wd := 0) X (fun l D sz => w_X6_dateOf l D sz h7) ho0.1 rfl q1634 qs77 q1632 q109 q1635 hy_X6_dateOf rfl dX6_date_22 rfl rfl (Nat.le_of_ble_eq_true rfl) ⟨Nat.le_of_ble_eq_true rfl, Nat.le_of_ble_eq_true rfl⟩ ⟨Nat.le_of_ble_eq_true rfl, Nat.le_of_ble_eq_true rfl⟩ ?_
      refine r_istore X dX6_date_25 (hL 4 (by decide)) (lv' := [(4, iv (r8)), (0, .ref (a0)), (1, iv (x1)), (2, iv (x2)), (3, iv (x3))]) rfl ?_
      refine r_iload X 0 dX6_date_27 rfl ?_
      refine r_iconst X dX6_date_29 ?_
      refine r_icmp_ne (tgt := 37) X dX6_date_30 (by decide) h (fun c9 h => ?_) (fun c9 h => ?_)
      · refine r_iconst X dX6_date_33 ?_
        refine r_goto (tgt := 55) X dX6_date_34 (by decide) ?_
        cases h
        exact r_iret X hr dX6_date_55
      · refine r_iload_n X 4 dX6_date_37 rfl rfl ?_
        refine r_iconst X dX6_date_38 ?_
        refine r_icmp_ne (tgt := 49) X dX6_date_39 (by decide) h (fun c10 h => ?_) (fun c10 h => ?_)
        · refine r_iload_n X 3 dX6_date_42 rfl rfl ?_
          refine r_bipush X dX6_date_43 (by decide) ?_
          obtain ⟨c11, h⟩ := ck_some h
          refine r_irem X dX6_date_45 c11 (by decide) (by decide) ?_
          refine r_goto (tgt := 55) X dX6_date_46 (by decide) ?_
          cases h
          exact r_iret X hr dX6_date_55
        · refine r_iload X 0 dX6_date_49 rfl ?_
          refine r_iload_n X 4 dX6_date_51 rfl rfl ?_
          obtain ⟨r13, h12, h⟩ := bd_some h
          refine r_cS (Wd := 0) X (fun l D sz => w_X6_partOf l D sz h12) q1637 q1636 q109 q1638 hy_X6_partOf rfl dX6_date_52 rfl rfl (Nat.le_of_ble_eq_true rfl) ⟨Nat.le_of_ble_eq_true rfl, Nat.le_of_ble_eq_true rfl⟩ ⟨Nat.le_of_ble_eq_true rfl, Nat.le_of_ble_eq_true rfl⟩ ?_
          cases h
          exact r_iret X hr dX6_date_55
theorem hy_X6_turned : yX6_turned.cls ≠ "java/lang/invoke/MethodHandle" ∧ yX6_turned.cls ≠ "java/lang/invoke/VarHandle" ∧ (parseMethodDescriptor yX6_turned.desc).map (fun d => d.parameters.length) = some 6 := by decide +kernel
set_option maxHeartbeats 4000000 in
theorem w_X6_turned (l : Launch) (D : DD) (sz : Nat) {σ : St} {a0 : Nat} {x1 : Int} {x2 : Int} {x3 : Int} {x4 : Int} {x5 : Int} {x6 : Int} {w : Int} (h : f_X6_turned σ a0 x1 x2 x3 x4 x5 x6 = some w) : Mt l yX6_turned cX6_turned 7 (some FieldType.int) ({ frames := 5, cells := 0, slots := 0, locals := 84 } : Room) D sz σ [.ref a0, iv (x1), iv (x2), iv (x3), iv (x4), iv (x5), iv (x6)] (.returned (some (iv w))) (σ) 0 0 := by
  refine Mt.of (by decide +kernel) (Nat.le_of_ble_eq_true rfl) ?_
  intro Γ X hr hnl hini hnoh
  have X : Cx Γ cX6_turned "DayBoyModel" _ := X
  have hL : ∀ i, i < 7 → i < nLc Γ := fun i q => by rw [hnl]; exact q
  show V Γ σ 0 0 0 [(0, .ref (a0)), (1, iv (x1)), (2, iv (x2)), (3, iv (x3)), (4, iv (x4)), (5, iv (x5)), (6, iv (x6))] []
  unfold f_X6_turned at h
  obtain ⟨ho0, h⟩ := cO_some h
  refine r_aload_n X 0 dX6_turned_0 rfl rfl ?_
  refine r_iload_n X 1 dX6_turned_1 rfl rfl ?_
  refine r_iload_n X 2 dX6_turned_2 rfl rfl ?_
  refine r_iload_n X 3 dX6_turned_3 rfl rfl ?_
  refine r_iload X 4 dX6_turned_4 rfl ?_
  obtain ⟨r2, h1, h⟩ := bd_some h
  refine r_cV (Wd := 0) X (fun l D sz => w_X6_isDate l D sz h1) ho0.1 rfl q1614 qs73 q1612 q109 q1615 hy_X6_isDate rfl dX6_turned_6 rfl rfl (Nat.le_of_ble_eq_true rfl) ⟨Nat.le_of_ble_eq_true rfl, Nat.le_of_ble_eq_true rfl⟩ ⟨Nat.le_of_ble_eq_true rfl, Nat.le_of_ble_eq_true rfl⟩ ?_
  refine r_if_eq (tgt := 51) X dX6_turned_9 (by decide) h (fun c3 h => ?_) (fun c3 h => ?_)
  · refine r_iconst X dX6_turned_51 ?_
    cases h
    exact r_iret X hr dX6_turned_52
  · refine r_aload_n X 0 dX6_turned_12 rfl rfl ?_
    refine r_iload X 5 dX6_turned_13 rfl ?_
    obtain ⟨r5, h4, h⟩ := bd_some h
    refine r_cV (Wd := 0) X (fun l D sz => w_X6_isCalendar l D sz h4) ho0.1 rfl q1622 qs75 q1620 q109 q1623 hy_X6_isCalendar rfl dX6_turned_15 rfl rfl (Nat.le_of_ble_eq_true rfl) ⟨Nat.le_of_ble_eq_true rfl, Nat.le_of_ble_eq_true rfl⟩ ⟨Nat.le_of_ble_eq_true rfl, Nat.le_of_ble_eq_true rfl⟩ ?_
    refine r_if_eq (tgt := 51) X dX6_turned_18 (by decide) h (fun c6 h => ?_) (fun c6 h => ?_)
    · refine r_iconst X dX6_turned_51 ?_
      cases h
      exact r_iret X hr dX6_turned_52
    · refine r_iload X 6 dX6_turned_21 rfl ?_
      refine r_iconst X dX6_turned_23 ?_
      refine r_iconst X dX6_turned_24 ?_
      obtain ⟨r8, h7, h⟩ := bd_some h
      refine r_cS (Wd := 0) X (fun l D sz => w_X6_in l D sz h7) q1502 q1501 q109 q1503 hy_X6_in rfl dX6_turned_25 rfl rfl (Nat.le_of_ble_eq_true rfl) ⟨Nat.le_of_ble_eq_true rfl, Nat.le_of_ble_eq_true rfl⟩ ⟨Nat.le_of_ble_eq_true rfl, Nat.le_of_ble_eq_true rfl⟩ ?_
      refine r_if_eq (tgt := 51) X dX6_turned_28 (by decide) h (fun c9 h => ?_) (fun c9 h => ?_)
      · refine r_iconst X dX6_turned_51 ?_
        cases h
        exact r_iret X hr dX6_turned_52
      · refine r_aload_n X 0 dX6_turned_31 rfl rfl ?_
        refine r_iload X 5 dX6_turned_32 rfl ?_
        refine r_aload_n X 0 dX6_turned_34 rfl rfl ?_
        refine r_iload_n X 1 dX6_turned_35 rfl rfl ?_
        refine r_iload_n X 2 dX6_turned_36 rfl rfl ?_
        refine r_iload_n X 3 dX6_turned_37 rfl rfl ?_
        refine r_iload X 4 dX6_turned_38 rfl ?_
        obtain ⟨r11, h10, h⟩ := bd_some h
        refine r_cV (Wd := 2) X (fun l D sz => w_X6_dayOf l D sz h10) ho0.1 rfl q1626 qs76 q1624 q109 q1627 hy_X6_dayOf rfl dX6_turned_40 rfl rfl (Nat.le_of_ble_eq_true rfl) ⟨Nat.le_of_ble_eq_true rfl, Nat.le_of_ble_eq_true rfl⟩ ⟨Nat.le_of_ble_eq_true rfl, Nat.le_of_ble_eq_true rfl⟩ ?_
        refine r_iload X 6 dX6_turned_43 rfl ?_
        obtain ⟨r13, h12, h⟩ := bd_some h
        refine r_cV (Wd := 0) X (fun l D sz => w_X6_date l D sz h12) ho0.1 rfl q1629 q1630 q1643 q109 q1631 hy_X6_date rfl dX6_turned_45 rfl rfl (Nat.le_of_ble_eq_true rfl) ⟨Nat.le_of_ble_eq_true rfl, Nat.le_of_ble_eq_true rfl⟩ ⟨Nat.le_of_ble_eq_true rfl, Nat.le_of_ble_eq_true rfl⟩ ?_
        refine r_goto (tgt := 52) X dX6_turned_48 (by decide) ?_
        cases h
        exact r_iret X hr dX6_turned_52
theorem hy_X6_many : yX6_many.cls ≠ "java/lang/invoke/MethodHandle" ∧ yX6_many.cls ≠ "java/lang/invoke/VarHandle" ∧ (parseMethodDescriptor yX6_many.desc).map (fun d => d.parameters.length) = some 3 := by decide +kernel
set_option maxHeartbeats 4000000 in
theorem w_X6_many (l : Launch) (D : DD) (sz : Nat) {σ : St} {a0 : Nat} {x1 : Int} {x2 : Int} {x3 : Int} {w : Int} (h : f_X6_many σ a0 x1 x2 x3 = some w) : Mt l yX6_many cX6_many 7 (some FieldType.int) ({ frames := 4, cells := 0, slots := 0, locals := 66 } : Room) D sz σ [.ref a0, iv (x1), iv (x2), iv (x3)] (.returned (some (iv w))) (σ) 0 0 := by
  refine Mt.of (by decide +kernel) (Nat.le_of_ble_eq_true rfl) ?_
  intro Γ X hr hnl hini hnoh
  have X : Cx Γ cX6_many "DayBoyModel" _ := X
  have hL : ∀ i, i < 7 → i < nLc Γ := fun i q => by rw [hnl]; exact q
  show V Γ σ 0 0 0 [(0, .ref (a0)), (1, iv (x1)), (2, iv (x2)), (3, iv (x3))] []
  unfold f_X6_many at h
  obtain ⟨ho0, h⟩ := cO_some h
  have J43 : ∀ (v4_j43 : Int) (t0_j43 : Int), f_X6_many_j43 (σ) (a0) (x1) (x2) (x3) v4_j43 t0_j43 = some w → V Γ σ 0 0 43 [(0, .ref (a0)), (1, iv (x1)), (2, iv (x2)), (3, iv (x3)), (4, iv (v4_j43))] [iv (t0_j43)] := by
    intro v4_j43 t0_j43 h
    unfold f_X6_many_j43 at h
    refine r_istore X dX6_many_43 (hL 5 (by decide)) (lv' := [(5, iv (t0_j43)), (0, .ref (a0)), (1, iv (x1)), (2, iv (x2)), (3, iv (x3)), (4, iv (v4_j43))]) rfl ?_
    have L45 : ∀ s : Int × Int, lp (fun s => f_X6_many_b45 (σ) (a0) (x1) (x2) (x3) s.1 s.2) s = some w → V Γ (σ) 0 0 45 [(0, .ref (a0)), (1, iv (x1)), (2, iv (x2)), (3, iv (x3)), (4, iv (s.1)), (5, iv (s.2))] [] := by
      refine lp_rule (P := fun s : Int × Int => V Γ (σ) 0 0 45 [(0, .ref (a0)), (1, iv (x1)), (2, iv (x2)), (3, iv (x3)), (4, iv (s.1)), (5, iv (s.2))] []) ?_
      intro s z1 h ihb1 ihe1
      obtain ⟨v4_1, v5_1⟩ := s
      have h : f_X6_many_b45 (σ) (a0) (x1) (x2) (x3) v4_1 v5_1 = some z1 := h
      unfold f_X6_many_b45 at h
      show V Γ σ 0 0 45 [(0, .ref (a0)), (1, iv (x1)), (2, iv (x2)), (3, iv (x3)), (4, iv (v4_1)), (5, iv (v5_1))] []
      have J57 : ∀ (v4_j57 : Int) (v5_j57 : Int) (t0_j57 : Int) (t1_j57 : Int), f_X6_many_j57 (σ) (a0) (x1) (x2) (x3) v4_j57 v5_j57 t0_j57 t1_j57 = some z1 → V Γ σ 0 0 57 [(0, .ref (a0)), (1, iv (x1)), (2, iv (x2)), (3, iv (x3)), (4, iv (v4_j57)), (5, iv (v5_j57))] [iv (t0_j57), iv (t1_j57)] := by
        intro v4_j57 v5_j57 t0_j57 t1_j57 h
        unfold f_X6_many_j57 at h
        refine r_icmp_gt (tgt := 105) X dX6_many_57 (by decide) h (fun c1 h => ?_) (fun c1 h => ?_)
        · have h := ex_some h ihe1
          refine r_iload X 4 dX6_many_105 rfl ?_
          cases h
          exact r_iret X hr dX6_many_107
        · refine r_iconst X dX6_many_60 ?_
          refine r_istore X dX6_many_61 (hL 6 (by decide)) (lv' := [(6, iv (1)), (0, .ref (a0)), (1, iv (x1)), (2, iv (x2)), (3, iv (x3)), (4, iv (v4_j57)), (5, iv (v5_j57))]) rfl ?_
          have L63 : ∀ s : Int × Int, lp (fun s => f_X6_many_b63 (σ) (a0) (x1) (x2) (x3) (v5_j57) s.1 s.2) s = some z1 → V Γ (σ) 0 0 63 [(0, .ref (a0)), (1, iv (x1)), (2, iv (x2)), (3, iv (x3)), (4, iv (s.1)), (5, iv (v5_j57)), (6, iv (s.2))] [] := by
            refine lp_rule (P := fun s : Int × Int => V Γ (σ) 0 0 63 [(0, .ref (a0)), (1, iv (x1)), (2, iv (x2)), (3, iv (x3)), (4, iv (s.1)), (5, iv (v5_j57)), (6, iv (s.2))] []) ?_
            intro s z2 h ihb2 ihe2
            obtain ⟨v4_2, v6_2⟩ := s
            have h : f_X6_many_b63 (σ) (a0) (x1) (x2) (x3) (v5_j57) v4_2 v6_2 = some z2 := h
            unfold f_X6_many_b63 at h
            show V Γ σ 0 0 63 [(0, .ref (a0)), (1, iv (x1)), (2, iv (x2)), (3, iv (x3)), (4, iv (v4_2)), (5, iv (v5_j57)), (6, iv (v6_2))] []
            refine r_iload X 6 dX6_many_63 rfl ?_
            refine r_bipush X dX6_many_65 (by decide) ?_
            refine r_icmp_gt (tgt := 99) X dX6_many_67 (by decide) h (fun c2 h => ?_) (fun c2 h => ?_)
            · have h := ex_some h ihe2
              refine r_iinc X 5 dX6_many_99 rfl (hL 5 (by decide)) (lv' := [(5, iv ((v5_j57 + 1))), (0, .ref (a0)), (1, iv (x1)), (2, iv (x2)), (3, iv (x3)), (4, iv (v4_2)), (6, iv (v6_2))]) rfl ?_
              refine r_goto (tgt := 45) X dX6_many_102 (by decide) ?_
              exact V.sub [1, 2, 3, 4, 5, 0] rfl (ihb1 _ (Option.some.inj h).symm)
            · refine r_iload X 4 dX6_many_70 rfl ?_
              refine r_aload_n X 0 dX6_many_72 rfl rfl ?_
              refine r_iload_n X 1 dX6_many_73 rfl rfl ?_
              refine r_iload_n X 2 dX6_many_74 rfl rfl ?_
              refine r_iload X 5 dX6_many_75 rfl ?_
              refine r_iload X 6 dX6_many_77 rfl ?_
              obtain ⟨r4, h3, h⟩ := bd_some h
              refine r_cV (Wd := 1) X (fun l D sz => w_X6_isDate l D sz h3) ho0.1 rfl q1614 qs73 q1612 q109 q1615 hy_X6_isDate rfl dX6_many_79 rfl rfl (Nat.le_of_ble_eq_true rfl) ⟨Nat.le_of_ble_eq_true rfl, Nat.le_of_ble_eq_true rfl⟩ ⟨Nat.le_of_ble_eq_true rfl, Nat.le_of_ble_eq_true rfl⟩ ?_
              refine r_if_eq (tgt := 89) X dX6_many_82 (by decide) h (fun c5 h => ?_) (fun c5 h => ?_)
              · refine r_iconst X dX6_many_89 ?_
                refine r_iadd X dX6_many_90 ?_
                refine r_istore X dX6_many_91 (hL 4 (by decide)) (lv' := [(4, iv ((v4_2 + 0))), (0, .ref (a0)), (1, iv (x1)), (2, iv (x2)), (3, iv (x3)), (5, iv (v5_j57)), (6, iv (v6_2))]) rfl ?_
                refine r_iinc X 6 dX6_many_93 rfl (hL 6 (by decide)) (lv' := [(6, iv ((v6_2 + 1))), (4, iv ((v4_2 + 0))), (0, .ref (a0)), (1, iv (x1)), (2, iv (x2)), (3, iv (x3)), (5, iv (v5_j57))]) rfl ?_
                refine r_goto (tgt := 63) X dX6_many_96 (by decide) ?_
                exact V.sub [2, 3, 4, 5, 1, 6, 0] rfl (ihb2 _ (Option.some.inj h).symm)
              · refine r_iconst X dX6_many_85 ?_
                refine r_goto (tgt := 90) X dX6_many_86 (by decide) ?_
                refine r_iadd X dX6_many_90 ?_
                refine r_istore X dX6_many_91 (hL 4 (by decide)) (lv' := [(4, iv ((v4_2 + 1))), (0, .ref (a0)), (1, iv (x1)), (2, iv (x2)), (3, iv (x3)), (5, iv (v5_j57)), (6, iv (v6_2))]) rfl ?_
                refine r_iinc X 6 dX6_many_93 rfl (hL 6 (by decide)) (lv' := [(6, iv ((v6_2 + 1))), (4, iv ((v4_2 + 1))), (0, .ref (a0)), (1, iv (x1)), (2, iv (x2)), (3, iv (x3)), (5, iv (v5_j57))]) rfl ?_
                refine r_goto (tgt := 63) X dX6_many_96 (by decide) ?_
                exact V.sub [2, 3, 4, 5, 1, 6, 0] rfl (ihb2 _ (Option.some.inj h).symm)
          exact V.sub [1, 2, 3, 4, 5, 6, 0] rfl (L63 (v4_j57, 1) h)
      refine r_iload X 5 dX6_many_45 rfl ?_
      refine r_iload_n X 3 dX6_many_47 rfl rfl ?_
      refine r_if_ne (tgt := 56) X dX6_many_48 (by decide) h (fun c6 h => ?_) (fun c6 h => ?_)
      · refine r_bipush X dX6_many_51 (by decide) ?_
        refine r_goto (tgt := 57) X dX6_many_53 (by decide) ?_
        exact V.sub [0, 1, 2, 3, 4, 5] rfl (J57 (v4_1) (v5_1) (12) (v5_1) h)
      · refine r_iload_n X 3 dX6_many_56 rfl rfl ?_
        exact V.sub [0, 1, 2, 3, 4, 5] rfl (J57 (v4_1) (v5_1) (x3) (v5_1) h)
    exact V.sub [1, 2, 3, 4, 5, 0] rfl (L45 (v4_j43, t0_j43) h)
  refine r_aload_n X 0 dX6_many_0 rfl rfl ?_
  refine r_iload_n X 1 dX6_many_1 rfl rfl ?_
  obtain ⟨r8, h7, h⟩ := bd_some h
  refine r_cV (Wd := 0) X (fun l D sz => w_X6_isCalendar l D sz h7) ho0.1 rfl q1622 qs75 q1620 q109 q1623 hy_X6_isCalendar rfl dX6_many_2 rfl rfl (Nat.le_of_ble_eq_true rfl) ⟨Nat.le_of_ble_eq_true rfl, Nat.le_of_ble_eq_true rfl⟩ ⟨Nat.le_of_ble_eq_true rfl, Nat.le_of_ble_eq_true rfl⟩ ?_
  refine r_if_eq (tgt := 29) X dX6_many_5 (by decide) h (fun c9 h => ?_) (fun c9 h => ?_)
  · refine r_iconst X dX6_many_29 ?_
    cases h
    exact r_iret X hr dX6_many_30
  · refine r_iload_n X 2 dX6_many_8 rfl rfl ?_
    refine r_iconst X dX6_many_9 ?_
    refine r_sipush X dX6_many_10 (by decide) ?_
    obtain ⟨r11, h10, h⟩ := bd_some h
    refine r_cS (Wd := 0) X (fun l D sz => w_X6_in l D sz h10) q1502 q1501 q109 q1503 hy_X6_in rfl dX6_many_13 rfl rfl (Nat.le_of_ble_eq_true rfl) ⟨Nat.le_of_ble_eq_true rfl, Nat.le_of_ble_eq_true rfl⟩ ⟨Nat.le_of_ble_eq_true rfl, Nat.le_of_ble_eq_true rfl⟩ ?_
    refine r_if_eq (tgt := 29) X dX6_many_16 (by decide) h (fun c12 h => ?_) (fun c12 h => ?_)
    · refine r_iconst X dX6_many_29 ?_
      cases h
      exact r_iret X hr dX6_many_30
    · refine r_iload_n X 3 dX6_many_19 rfl rfl ?_
      refine r_iconst X dX6_many_20 ?_
      refine r_bipush X dX6_many_21 (by decide) ?_
      obtain ⟨r14, h13, h⟩ := bd_some h
      refine r_cS (Wd := 0) X (fun l D sz => w_X6_in l D sz h13) q1502 q1501 q109 q1503 hy_X6_in rfl dX6_many_23 rfl rfl (Nat.le_of_ble_eq_true rfl) ⟨Nat.le_of_ble_eq_true rfl, Nat.le_of_ble_eq_true rfl⟩ ⟨Nat.le_of_ble_eq_true rfl, Nat.le_of_ble_eq_true rfl⟩ ?_
      refine r_if_ne (tgt := 31) X dX6_many_26 (by decide) h (fun c15 h => ?_) (fun c15 h => ?_)
      · refine r_iconst X dX6_many_29 ?_
        cases h
        exact r_iret X hr dX6_many_30
      · refine r_iconst X dX6_many_31 ?_
        refine r_istore X dX6_many_32 (hL 4 (by decide)) (lv' := [(4, iv (0)), (0, .ref (a0)), (1, iv (x1)), (2, iv (x2)), (3, iv (x3))]) rfl ?_
        refine r_iload_n X 4 dX6_many_34 rfl rfl ?_
        refine r_if_ne (tgt := 42) X dX6_many_35 (by decide) h (fun c16 h => ?_) (fun c16 h => ?_)
        · refine r_iconst X dX6_many_38 ?_
          refine r_goto (tgt := 43) X dX6_many_39 (by decide) ?_
          exact V.sub [1, 2, 3, 4, 0] rfl (J43 (0) (1) h)
        · refine r_iload_n X 4 dX6_many_42 rfl rfl ?_
          exact V.sub [1, 2, 3, 4, 0] rfl (J43 (0) (x3) h)
