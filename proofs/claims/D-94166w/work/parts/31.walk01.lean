/-! walks (printed by gen.py) -/
set_option maxRecDepth 100000
theorem hy_J3_min : yJ3_min.cls ≠ "java/lang/invoke/MethodHandle" ∧ yJ3_min.cls ≠ "java/lang/invoke/VarHandle" ∧ (parseMethodDescriptor yJ3_min.desc).map (fun d => d.parameters.length) = some 2 := by decide +kernel
set_option maxHeartbeats 4000000 in
theorem w_J3_min (l : Launch) (D : DD) (sz : Nat) {σ : St} {x0 : Int} {x1 : Int} {w : Int} (h : f_J3_min σ x0 x1 = some w) : Mt l yJ3_min cJ3_min 2 (some FieldType.int) ({ frames := 0, cells := 0, slots := 0, locals := 0 } : Room) D sz σ [iv (x0), iv (x1)] (.returned (some (iv w))) (σ) 0 0 := by
  refine Mt.of (by decide +kernel) (Nat.le_of_ble_eq_true rfl) ?_
  intro Γ X hr hnl hini hnoh
  have X : Cx Γ cJ3_min "java/lang/Math" _ := X
  have hL : ∀ i, i < 2 → i < nLc Γ := fun i q => by rw [hnl]; exact q
  show V Γ σ 0 0 0 [(0, iv (x0)), (1, iv (x1))] []
  unfold f_J3_min at h
  refine r_iload_n X 0 dJ3_min_0 rfl rfl ?_
  refine r_iload_n X 1 dJ3_min_1 rfl rfl ?_
  refine r_icmp_gt (tgt := 9) X dJ3_min_2 (by decide) h (fun c1 h => ?_) (fun c1 h => ?_)
  · refine r_iload_n X 1 dJ3_min_9 rfl rfl ?_
    cases h
    exact r_iret X hr dJ3_min_10
  · refine r_iload_n X 0 dJ3_min_5 rfl rfl ?_
    refine r_goto (tgt := 10) X dJ3_min_6 (by decide) ?_
    cases h
    exact r_iret X hr dJ3_min_10
theorem hy_J3_min_2 : yJ3_min_2.cls ≠ "java/lang/invoke/MethodHandle" ∧ yJ3_min_2.cls ≠ "java/lang/invoke/VarHandle" ∧ (parseMethodDescriptor yJ3_min_2.desc).map (fun d => d.parameters.length) = some 2 := by decide +kernel
set_option maxHeartbeats 4000000 in
theorem w_J3_min_2 (l : Launch) (D : DD) (sz : Nat) {σ : St} {y0 : Int} {y2 : Int} {w : Int} (h : f_J3_min_2 σ y0 y2 = some w) : Mt l yJ3_min_2 cJ3_min_2 4 (some FieldType.long) ({ frames := 0, cells := 0, slots := 0, locals := 0 } : Room) D sz σ [jv (y0), jv (y2)] (.returned (some (jv w))) (σ) 0 0 := by
  refine Mt.of (by decide +kernel) (Nat.le_of_ble_eq_true rfl) ?_
  intro Γ X hr hnl hini hnoh
  have X : Cx Γ cJ3_min_2 "java/lang/Math" _ := X
  have hL : ∀ i, i < 4 → i < nLc Γ := fun i q => by rw [hnl]; exact q
  show V Γ σ 0 0 0 [(0, jv (y0)), (2, jv (y2))] []
  unfold f_J3_min_2 at h
  refine r_lload_n X 0 dJ3_min_2_0 rfl rfl ?_
  refine r_lload_n X 1 dJ3_min_2_1 rfl rfl ?_
  refine r_lcmp_gt (tgt := 10) X dJ3_min_2_2 dJ3_min_2_3 (by decide) h (fun c1 h => ?_) (fun c1 h => ?_)
  · refine r_lload_n X 1 dJ3_min_2_10 rfl rfl ?_
    cases h
    exact r_lret X hr dJ3_min_2_11
  · refine r_lload_n X 0 dJ3_min_2_6 rfl rfl ?_
    refine r_goto (tgt := 11) X dJ3_min_2_7 (by decide) ?_
    cases h
    exact r_lret X hr dJ3_min_2_11
theorem hy_J3_abs : yJ3_abs.cls ≠ "java/lang/invoke/MethodHandle" ∧ yJ3_abs.cls ≠ "java/lang/invoke/VarHandle" ∧ (parseMethodDescriptor yJ3_abs.desc).map (fun d => d.parameters.length) = some 1 := by decide +kernel
set_option maxHeartbeats 4000000 in
theorem w_J3_abs (l : Launch) (D : DD) (sz : Nat) {σ : St} {x0 : Int} {w : Int} (h : f_J3_abs σ x0 = some w) : Mt l yJ3_abs cJ3_abs 1 (some FieldType.int) ({ frames := 0, cells := 0, slots := 0, locals := 0 } : Room) D sz σ [iv (x0)] (.returned (some (iv w))) (σ) 0 0 := by
  refine Mt.of (by decide +kernel) (Nat.le_of_ble_eq_true rfl) ?_
  intro Γ X hr hnl hini hnoh
  have X : Cx Γ cJ3_abs "java/lang/Math" _ := X
  have hL : ∀ i, i < 1 → i < nLc Γ := fun i q => by rw [hnl]; exact q
  show V Γ σ 0 0 0 [(0, iv (x0))] []
  unfold f_J3_abs at h
  refine r_iload_n X 0 dJ3_abs_0 rfl rfl ?_
  refine r_if_ge (tgt := 9) X dJ3_abs_1 (by decide) h (fun c1 h => ?_) (fun c1 h => ?_)
  · refine r_iload_n X 0 dJ3_abs_4 rfl rfl ?_
    refine r_ineg X dJ3_abs_5 ?_
    refine r_goto (tgt := 10) X dJ3_abs_6 (by decide) ?_
    cases h
    exact r_iret X hr dJ3_abs_10
  · refine r_iload_n X 0 dJ3_abs_9 rfl rfl ?_
    cases h
    exact r_iret X hr dJ3_abs_10
theorem hy_J3_max : yJ3_max.cls ≠ "java/lang/invoke/MethodHandle" ∧ yJ3_max.cls ≠ "java/lang/invoke/VarHandle" ∧ (parseMethodDescriptor yJ3_max.desc).map (fun d => d.parameters.length) = some 2 := by decide +kernel
set_option maxHeartbeats 4000000 in
theorem w_J3_max (l : Launch) (D : DD) (sz : Nat) {σ : St} {x0 : Int} {x1 : Int} {w : Int} (h : f_J3_max σ x0 x1 = some w) : Mt l yJ3_max cJ3_max 2 (some FieldType.int) ({ frames := 0, cells := 0, slots := 0, locals := 0 } : Room) D sz σ [iv (x0), iv (x1)] (.returned (some (iv w))) (σ) 0 0 := by
  refine Mt.of (by decide +kernel) (Nat.le_of_ble_eq_true rfl) ?_
  intro Γ X hr hnl hini hnoh
  have X : Cx Γ cJ3_max "java/lang/Math" _ := X
  have hL : ∀ i, i < 2 → i < nLc Γ := fun i q => by rw [hnl]; exact q
  show V Γ σ 0 0 0 [(0, iv (x0)), (1, iv (x1))] []
  unfold f_J3_max at h
  refine r_iload_n X 0 dJ3_max_0 rfl rfl ?_
  refine r_iload_n X 1 dJ3_max_1 rfl rfl ?_
  refine r_icmp_lt (tgt := 9) X dJ3_max_2 (by decide) h (fun c1 h => ?_) (fun c1 h => ?_)
  · refine r_iload_n X 1 dJ3_max_9 rfl rfl ?_
    cases h
    exact r_iret X hr dJ3_max_10
  · refine r_iload_n X 0 dJ3_max_5 rfl rfl ?_
    refine r_goto (tgt := 10) X dJ3_max_6 (by decide) ?_
    cases h
    exact r_iret X hr dJ3_max_10
theorem hy_J5_compare : yJ5_compare.cls ≠ "java/lang/invoke/MethodHandle" ∧ yJ5_compare.cls ≠ "java/lang/invoke/VarHandle" ∧ (parseMethodDescriptor yJ5_compare.desc).map (fun d => d.parameters.length) = some 2 := by decide +kernel
set_option maxHeartbeats 4000000 in
theorem w_J5_compare (l : Launch) (D : DD) (sz : Nat) {σ : St} {x0 : Int} {x1 : Int} {w : Int} (h : f_J5_compare σ x0 x1 = some w) : Mt l yJ5_compare cJ5_compare 2 (some FieldType.int) ({ frames := 0, cells := 0, slots := 0, locals := 0 } : Room) D sz σ [iv (x0), iv (x1)] (.returned (some (iv w))) (σ) 0 0 := by
  refine Mt.of (by decide +kernel) (Nat.le_of_ble_eq_true rfl) ?_
  intro Γ X hr hnl hini hnoh
  have X : Cx Γ cJ5_compare "java/lang/Integer" _ := X
  have hL : ∀ i, i < 2 → i < nLc Γ := fun i q => by rw [hnl]; exact q
  show V Γ σ 0 0 0 [(0, iv (x0)), (1, iv (x1))] []
  unfold f_J5_compare at h
  refine r_iload_n X 0 dJ5_compare_0 rfl rfl ?_
  refine r_iload_n X 1 dJ5_compare_1 rfl rfl ?_
  refine r_icmp_ge (tgt := 9) X dJ5_compare_2 (by decide) h (fun c1 h => ?_) (fun c1 h => ?_)
  · refine r_iconst X dJ5_compare_5 ?_
    refine r_goto (tgt := 19) X dJ5_compare_6 (by decide) ?_
    cases h
    exact r_iret X hr dJ5_compare_19
  · refine r_iload_n X 0 dJ5_compare_9 rfl rfl ?_
    refine r_iload_n X 1 dJ5_compare_10 rfl rfl ?_
    refine r_icmp_ne (tgt := 18) X dJ5_compare_11 (by decide) h (fun c2 h => ?_) (fun c2 h => ?_)
    · refine r_iconst X dJ5_compare_14 ?_
      refine r_goto (tgt := 19) X dJ5_compare_15 (by decide) ?_
      cases h
      exact r_iret X hr dJ5_compare_19
    · refine r_iconst X dJ5_compare_18 ?_
      cases h
      exact r_iret X hr dJ5_compare_19
theorem hy_J5_bitCount : yJ5_bitCount.cls ≠ "java/lang/invoke/MethodHandle" ∧ yJ5_bitCount.cls ≠ "java/lang/invoke/VarHandle" ∧ (parseMethodDescriptor yJ5_bitCount.desc).map (fun d => d.parameters.length) = some 1 := by decide +kernel
set_option maxHeartbeats 4000000 in
theorem w_J5_bitCount (l : Launch) (D : DD) (sz : Nat) {σ : St} {x0 : Int} {w : Int} (h : f_J5_bitCount σ x0 = some w) : Mt l yJ5_bitCount cJ5_bitCount 1 (some FieldType.int) ({ frames := 0, cells := 0, slots := 0, locals := 0 } : Room) D sz σ [iv (x0)] (.returned (some (iv w))) (σ) 0 0 := by
  refine Mt.of (by decide +kernel) (Nat.le_of_ble_eq_true rfl) ?_
  intro Γ X hr hnl hini hnoh
  have X : Cx Γ cJ5_bitCount "java/lang/Integer" _ := X
  have hL : ∀ i, i < 1 → i < nLc Γ := fun i q => by rw [hnl]; exact q
  show V Γ σ 0 0 0 [(0, iv (x0))] []
  unfold f_J5_bitCount at h
  refine r_iload_n X 0 dJ5_bitCount_0 rfl rfl ?_
  refine r_iload_n X 0 dJ5_bitCount_1 rfl rfl ?_
  refine r_iconst X dJ5_bitCount_2 ?_
  refine r_iushr X dJ5_bitCount_3 ?_
  refine r_ldcw (z := 1431655765) X q1092 dJ5_bitCount_4 rfl ?_
  refine r_iand X dJ5_bitCount_7 ?_
  refine r_isub X dJ5_bitCount_8 ?_
  refine r_istore_n X dJ5_bitCount_9 rfl (hL 0 (by decide)) (lv' := [(0, iv ((x0 - (bAnd ((bUshr (x0) (1))) (1431655765)))))]) rfl ?_
  refine r_iload_n X 0 dJ5_bitCount_10 rfl rfl ?_
  refine r_ldcw (z := 858993459) X q1093 dJ5_bitCount_11 rfl ?_
  refine r_iand X dJ5_bitCount_14 ?_
  refine r_iload_n X 0 dJ5_bitCount_15 rfl rfl ?_
  refine r_iconst X dJ5_bitCount_16 ?_
  refine r_iushr X dJ5_bitCount_17 ?_
  refine r_ldcw (z := 858993459) X q1093 dJ5_bitCount_18 rfl ?_
  refine r_iand X dJ5_bitCount_21 ?_
  refine r_iadd X dJ5_bitCount_22 ?_
  refine r_istore_n X dJ5_bitCount_23 rfl (hL 0 (by decide)) (lv' := [(0, iv (((bAnd ((x0 - (bAnd ((bUshr (x0) (1))) (1431655765)))) (858993459)) + (bAnd ((bUshr ((x0 - (bAnd ((bUshr (x0) (1))) (1431655765)))) (2))) (858993459)))))]) rfl ?_
  refine r_iload_n X 0 dJ5_bitCount_24 rfl rfl ?_
  refine r_iload_n X 0 dJ5_bitCount_25 rfl rfl ?_
  refine r_iconst X dJ5_bitCount_26 ?_
  refine r_iushr X dJ5_bitCount_27 ?_
  refine r_iadd X dJ5_bitCount_28 ?_
  refine r_ldcw (z := 252645135) X q1094 dJ5_bitCount_29 rfl ?_
  refine r_iand X dJ5_bitCount_32 ?_
  refine r_istore_n X dJ5_bitCount_33 rfl (hL 0 (by decide)) (lv' := [(0, iv ((bAnd ((((bAnd ((x0 - (bAnd ((bUshr (x0) (1))) (1431655765)))) (858993459)) + (bAnd ((bUshr ((x0 - (bAnd ((bUshr (x0) (1))) (1431655765)))) (2))) (858993459))) + (bUshr (((bAnd ((x0 - (bAnd ((bUshr (x0) (1))) (1431655765)))) (858993459)) + (bAnd ((bUshr ((x0 - (bAnd ((bUshr (x0) (1))) (1431655765)))) (2))) (858993459)))) (4)))) (252645135))))]) rfl ?_
  refine r_iload_n X 0 dJ5_bitCount_34 rfl rfl ?_
  refine r_iload_n X 0 dJ5_bitCount_35 rfl rfl ?_
  refine r_bipush X dJ5_bitCount_36 (by decide) ?_
  refine r_iushr X dJ5_bitCount_38 ?_
  refine r_iadd X dJ5_bitCount_39 ?_
  refine r_istore_n X dJ5_bitCount_40 rfl (hL 0 (by decide)) (lv' := [(0, iv (((bAnd ((((bAnd ((x0 - (bAnd ((bUshr (x0) (1))) (1431655765)))) (858993459)) + (bAnd ((bUshr ((x0 - (bAnd ((bUshr (x0) (1))) (1431655765)))) (2))) (858993459))) + (bUshr (((bAnd ((x0 - (bAnd ((bUshr (x0) (1))) (1431655765)))) (858993459)) + (bAnd ((bUshr ((x0 - (bAnd ((bUshr (x0) (1))) (1431655765)))) (2))) (858993459)))) (4)))) (252645135)) + (bUshr ((bAnd ((((bAnd ((x0 - (bAnd ((bUshr (x0) (1))) (1431655765)))) (858993459)) + (bAnd ((bUshr ((x0 - (bAnd ((bUshr (x0) (1))) (1431655765)))) (2))) (858993459))) + (bUshr (((bAnd ((x0 - (bAnd ((bUshr (x0) (1))) (1431655765)))) (858993459)) + (bAnd ((bUshr ((x0 - (bAnd ((bUshr (x0) (1))) (1431655765)))) (2))) (858993459)))) (4)))) (252645135))) (8)))))]) rfl ?_
  refine r_iload_n X 0 dJ5_bitCount_41 rfl rfl ?_
  refine r_iload_n X 0 dJ5_bitCount_42 rfl rfl ?_
  refine r_bipush X dJ5_bitCount_43 (by decide) ?_
  refine r_iushr X dJ5_bitCount_45 ?_
  refine r_iadd X dJ5_bitCount_46 ?_
  refine r_istore_n X dJ5_bitCount_47 rfl (hL 0 (by decide)) (lv' := [(0, iv ((((bAnd ((((bAnd ((x0 - (bAnd ((bUshr (x0) (1))) (1431655765)))) (858993459)) + (bAnd ((bUshr ((x0 - (bAnd ((bUshr (x0) (1))) (1431655765)))) (2))) (858993459))) + (bUshr (((bAnd ((x0 - (bAnd ((bUshr (x0) (1))) (1431655765)))) (858993459)) + (bAnd ((bUshr ((x0 - (bAnd ((bUshr (x0) (1))) (1431655765)))) (2))) (858993459)))) (4)))) (252645135)) + (bUshr ((bAnd ((((bAnd ((x0 - (bAnd ((bUshr (x0) (1))) (1431655765)))) (858993459)) + (bAnd ((bUshr ((x0 - (bAnd ((bUshr (x0) (1))) (1431655765)))) (2))) (858993459))) + (bUshr (((bAnd ((x0 - (bAnd ((bUshr (x0) (1))) (1431655765)))) (858993459)) + (bAnd ((bUshr ((x0 - (bAnd ((bUshr (x0) (1))) (1431655765)))) (2))) (858993459)))) (4)))) (252645135))) (8))) + (bUshr (((bAnd ((((bAnd ((x0 - (bAnd ((bUshr (x0) (1))) (1431655765)))) (858993459)) + (bAnd ((bUshr ((x0 - (bAnd ((bUshr (x0) (1))) (1431655765)))) (2))) (858993459))) + (bUshr (((bAnd ((x0 - (bAnd ((bUshr (x0) (1))) (1431655765)))) (858993459)) + (bAnd ((bUshr ((x0 - (bAnd ((bUshr (x0) (1))) (1431655765)))) (2))) (858993459)))) (4)))) (252645135)) + (bUshr ((bAnd ((((bAnd ((x0 - (bAnd ((bUshr (x0) (1))) (1431655765)))) (858993459)) + (bAnd ((bUshr ((x0 - (bAnd ((bUshr (x0) (1))) (1431655765)))) (2))) (858993459))) + (bUshr (((bAnd ((x0 - (bAnd ((bUshr (x0) (1))) (1431655765)))) (858993459)) + (bAnd ((bUshr ((x0 - (bAnd ((bUshr (x0) (1))) (1431655765)))) (2))) (858993459)))) (4)))) (252645135))) (8)))) (16)))))]) rfl ?_
  refine r_iload_n X 0 dJ5_bitCount_48 rfl rfl ?_
  refine r_bipush X dJ5_bitCount_49 (by decide) ?_
  refine r_iand X dJ5_bitCount_51 ?_
  cases h
  exact r_iret X hr dJ5_bitCount_52
theorem hy_J6_compare : yJ6_compare.cls ≠ "java/lang/invoke/MethodHandle" ∧ yJ6_compare.cls ≠ "java/lang/invoke/VarHandle" ∧ (parseMethodDescriptor yJ6_compare.desc).map (fun d => d.parameters.length) = some 2 := by decide +kernel
set_option maxHeartbeats 4000000 in
theorem w_J6_compare (l : Launch) (D : DD) (sz : Nat) {σ : St} {y0 : Int} {y2 : Int} {w : Int} (h : f_J6_compare σ y0 y2 = some w) : Mt l yJ6_compare cJ6_compare 4 (some FieldType.int) ({ frames := 0, cells := 0, slots := 0, locals := 0 } : Room) D sz σ [jv (y0), jv (y2)] (.returned (some (iv w))) (σ) 0 0 := by
  refine Mt.of (by decide +kernel) (Nat.le_of_ble_eq_true rfl) ?_
  intro Γ X hr hnl hini hnoh
  have X : Cx Γ cJ6_compare "java/lang/Long" _ := X
  have hL : ∀ i, i < 4 → i < nLc Γ := fun i q => by rw [hnl]; exact q
  show V Γ σ 0 0 0 [(0, jv (y0)), (2, jv (y2))] []
  unfold f_J6_compare at h
  refine r_lload_n X 0 dJ6_compare_0 rfl rfl ?_
  refine r_lload_n X 1 dJ6_compare_1 rfl rfl ?_
  refine r_lcmp_ge (tgt := 10) X dJ6_compare_2 dJ6_compare_3 (by decide) h (fun c1 h => ?_) (fun c1 h => ?_)
  · refine r_iconst X dJ6_compare_6 ?_
    refine r_goto (tgt := 21) X dJ6_compare_7 (by decide) ?_
    cases h
    exact r_iret X hr dJ6_compare_21
  · refine r_lload_n X 0 dJ6_compare_10 rfl rfl ?_
    refine r_lload_n X 1 dJ6_compare_11 rfl rfl ?_
    refine r_lcmp_ne (tgt := 20) X dJ6_compare_12 dJ6_compare_13 (by decide) h (fun c2 h => ?_) (fun c2 h => ?_)
    · refine r_iconst X dJ6_compare_16 ?_
      refine r_goto (tgt := 21) X dJ6_compare_17 (by decide) ?_
      cases h
      exact r_iret X hr dJ6_compare_21
    · refine r_iconst X dJ6_compare_20 ?_
      cases h
      exact r_iret X hr dJ6_compare_21
theorem hy_X4_init : yX4_init.cls ≠ "java/lang/invoke/MethodHandle" ∧ yX4_init.cls ≠ "java/lang/invoke/VarHandle" ∧ (parseMethodDescriptor yX4_init.desc).map (fun d => d.parameters.length) = some 0 := by decide +kernel
set_option maxHeartbeats 4000000 in
theorem w_X4_init (l : Launch) (D : DD) (sz : Nat) {σ : St} {a0 : Nat} {w : St} (h : f_X4_init σ a0 = some w) : Mt l yX4_init cX4_init 1 none ({ frames := 1, cells := 3, slots := 10017, locals := 12 } : Room) D sz σ [.ref a0] (.returned none) (w) 3 10017 := by
  refine Mt.of (by decide +kernel) (Nat.le_of_ble_eq_true rfl) ?_
  intro Γ X hr hnl hini hnoh
  have X : Cx Γ cX4_init "DayBoy$Leaps" _ := X
  have hL : ∀ i, i < 1 → i < nLc Γ := fun i q => by rw [hnl]; exact q
  have hini := hini rfl
  show V Γ σ 0 0 0 [(0, .ref (a0))] []
  unfold f_X4_init at h
  obtain ⟨hc0, h⟩ := ck_some h
  refine r_aload_n X 0 dX4_init_0 rfl rfl ?_
  refine r_objInit X q153 q133 q134 dX4_init_1 (by decide) (Nat.le_of_ble_eq_true rfl) ?_
  refine r_aload_n X 0 dX4_init_4 rfl rfl ?_
  refine r_bipush X dX4_init_5 (by decide) ?_
  refine r_newA (kf := 0) (t := .int) (atype := .int) X hini hc0 rfl (by decide) (by decide) rfl rfl (by decide) (fun U cA h => h) rfl q170 q154 rfl rfl rfl rfl (by decide) dX4_init_7 dX4_init_9 (by decide) (by decide) ?_
  refine r_let h (fun σ1 eσ1 h => ?_)
  refine r_aload_n X 0 dX4_init_12 rfl rfl ?_
  refine r_sipush X dX4_init_13 (by decide) ?_
  have hk2 : cL σ1 (a0) = some 3 := by rw [eσ1]; exact hc0
  refine r_newA (kf := 1) (t := .int) (atype := .int) X hini hk2 rfl (by decide) (by decide) rfl rfl (by decide) (fun U cA h => h) rfl q170 q155 rfl rfl rfl rfl (by decide) dX4_init_16 dX4_init_18 (by decide) (by decide) ?_
  refine r_let h (fun σ3 eσ3 h => ?_)
  refine r_aload_n X 0 dX4_init_21 rfl rfl ?_
  refine r_bipush X dX4_init_22 (by decide) ?_
  have hk4 : cL σ3 (a0) = some 3 := by rw [eσ3]; exact hk2
  refine r_newA (kf := 2) (t := .boolean) (atype := .boolean) X hini hk4 rfl (by decide) (by decide) rfl rfl (by decide) (fun U cA h => h) rfl q171 q156 rfl rfl rfl rfl (by decide) dX4_init_24 dX4_init_26 (by decide) (by decide) ?_
  refine r_let h (fun σ5 eσ5 h => ?_)
  cases h
  exact r_vret X hr dX4_init_29
theorem hy_X3_init : yX3_init.cls ≠ "java/lang/invoke/MethodHandle" ∧ yX3_init.cls ≠ "java/lang/invoke/VarHandle" ∧ (parseMethodDescriptor yX3_init.desc).map (fun d => d.parameters.length) = some 0 := by decide +kernel
set_option maxHeartbeats 4000000 in
theorem w_X3_init (l : Launch) (D : DD) (sz : Nat) {σ : St} {a0 : Nat} {w : St} (h : f_X3_init σ a0 = some w) : Mt l yX3_init cX3_init 1 none ({ frames := 2, cells := 4, slots := 10021, locals := 26 } : Room) D sz σ [.ref a0] (.returned none) (w) 4 10021 := by
  refine Mt.of (by decide +kernel) (Nat.le_of_ble_eq_true rfl) ?_
  intro Γ X hr hnl hini hnoh
  have X : Cx Γ cX3_init "DayBoy$Era" _ := X
  have hL : ∀ i, i < 1 → i < nLc Γ := fun i q => by rw [hnl]; exact q
  have hini := hini rfl
  show V Γ σ 0 0 0 [(0, .ref (a0))] []
  unfold f_X3_init at h
  obtain ⟨hc0, h⟩ := ck_some h
  refine r_aload_n X 0 dX3_init_0 rfl rfl ?_
  refine r_objInit X q147 q133 q134 dX3_init_1 (by decide) (Nat.le_of_ble_eq_true rfl) ?_
  refine r_aload_n X 0 dX3_init_4 rfl rfl ?_
  refine r_new (c := 3) (N := 4) X rfl rfl (by decide) q148 q149 q107 dX3_init_5 (by decide) (by decide) ?_
  refine r_let h (fun σ1 eσ1 h => ?_)
  have hk2 : cL σ1 (nX (σ)) = some 3 := by rw [eσ1, cL_nO, if_pos rfl]
  refine r_dup X dX3_init_8 rfl ?_
  obtain ⟨σ4, h3, h⟩ := bd_some h
  refine r_cIN (Wd := 2) X (fun l D sz => w_X4_init l D sz h3) rfl rfl q151 q150 q107 q152 hy_X4_init rfl dX3_init_9 rfl rfl (Nat.le_of_ble_eq_true rfl) ⟨Nat.le_of_ble_eq_true rfl, Nat.le_of_ble_eq_true rfl⟩ ⟨Nat.le_of_ble_eq_true rfl, Nat.le_of_ble_eq_true rfl⟩ ?_
  obtain ⟨ho5, h⟩ := cO_some h
  refine r_putPF (kf := 0) X hini ho5.1 rfl (by decide) rfl rfl q172 rfl dX3_init_12 rfl ?_
  refine r_let h (fun σ6 eσ6 h => ?_)
  cases h
  exact r_vret X hr dX3_init_15
theorem hy_X2_init : yX2_init.cls ≠ "java/lang/invoke/MethodHandle" ∧ yX2_init.cls ≠ "java/lang/invoke/VarHandle" ∧ (parseMethodDescriptor yX2_init.desc).map (fun d => d.parameters.length) = some 0 := by decide +kernel
set_option maxHeartbeats 4000000 in
theorem w_X2_init (l : Launch) (D : DD) (sz : Nat) {σ : St} {a0 : Nat} {w : St} (h : f_X2_init σ a0 = some w) : Mt l yX2_init cX2_init 2 none ({ frames := 3, cells := 26, slots := 50129, locals := 41 } : Room) D sz σ [.ref a0] (.returned none) (w) 21 40104 := by
  refine Mt.of (by decide +kernel) (Nat.le_of_ble_eq_true rfl) ?_
  intro Γ X hr hnl hini hnoh
  have X : Cx Γ cX2_init "DayBoy$Almanac" _ := X
  have hL : ∀ i, i < 2 → i < nLc Γ := fun i q => by rw [hnl]; exact q
  have hini := hini rfl
  show V Γ σ 0 0 0 [(0, .ref (a0))] []
  unfold f_X2_init at h
  obtain ⟨hc0, h⟩ := ck_some h
  refine r_aload_n X 0 dX2_init_0 rfl rfl ?_
  refine r_objInit X q140 q133 q134 dX2_init_1 (by decide) (Nat.le_of_ble_eq_true rfl) ?_
  refine r_aload_n X 0 dX2_init_4 rfl rfl ?_
  refine r_iconst X dX2_init_5 ?_
  refine r_newQ (kf := 0) X hini hc0 rfl (by decide) rfl rfl (by decide) rfl q142 q141 q189 rfl rfl rfl rfl (by decide) dX2_init_6 dX2_init_9 (by decide) (by decide) ?_
  refine r_let h (fun σ1 eσ1 h => ?_)
  refine r_iconst X dX2_init_12 ?_
  refine r_istore_n X dX2_init_13 rfl (hL 1 (by decide)) (lv' := [(1, iv (0)), (0, .ref (a0))]) rfl ?_
  have L14 : ∀ s : Nat × Int × St, lp (fun s => f_X2_init_b14 (a0) s.1 s.2.1 s.2.2) s = some w → V Γ (s.2.2) (1 + (4 - s.1) * 5) (4 + (4 - s.1) * 10025) 14 [(0, .ref (a0)), (1, iv (s.2.1))] [] := by
    refine lp_rule (P := fun s : Nat × Int × St => V Γ (s.2.2) (1 + (4 - s.1) * 5) (4 + (4 - s.1) * 10025) 14 [(0, .ref (a0)), (1, iv (s.2.1))] []) ?_
    intro s z1 h ihb1 ihe1
    obtain ⟨cn, v1_1, σ_1⟩ := s
    have h : f_X2_init_b14 (a0) cn v1_1 σ_1 = some z1 := h
    unfold f_X2_init_b14 at h
    show V Γ σ_1 (1 + (4 - cn) * 5) (4 + (4 - cn) * 10025) 14 [(0, .ref (a0)), (1, iv (v1_1))] []
    obtain ⟨⟨hn1, hn2⟩, h⟩ := ck_some h
    refine r_iload_n X 1 dX2_init_14 rfl rfl ?_
    refine r_iconst X dX2_init_15 ?_
    refine r_icmp_gt (tgt := 38) X dX2_init_16 (by decide) h (fun c2 h => ?_) (fun c2 h => ?_)
    · have h := ex_some h ihe1
      refine V.widen (k' := 21) (n' := 40104) (by show _ ≤ _; omega) (by show _ ≤ _; omega) ?_
      cases h
      exact r_vret X hr dX2_init_38
    · refine r_aload_n X 0 dX2_init_19 rfl rfl ?_
      obtain ⟨ho3, h⟩ := cO_some h
      refine r_getA (kf := 0) X ho3.1 rfl (by decide) (by decide) (Or.inl q189) dX2_init_20 ?_
      refine r_iload_n X 1 dX2_init_23 rfl rfl ?_
      refine r_new (c := 2) (N := 4) X rfl rfl (by decide) q141 q143 q106 dX2_init_24 (by show (1 + (4 - cn) * 5) + 1 ≤ 26; omega) (by show (4 + (4 - cn) * 10025) + 4 ≤ 50129; omega) ?_
      refine V.widen (k' := (2 + (4 - cn) * 5)) (n' := (8 + (4 - cn) * 10025)) (by show _ ≤ _; omega) (by show _ ≤ _; omega) ?_
      refine r_let h (fun σ4 eσ4 h => ?_)
      have hk5 : cL σ4 (nX (σ_1)) = some 2 := by rw [eσ4, cL_nO, if_pos rfl]
      have ho6 : oc σ4 (nX (σ_1)) 2 := ⟨hk5, fun k hk => by cases hk⟩
      refine r_dup X dX2_init_27 rfl ?_
      obtain ⟨σ8, h7, h⟩ := bd_some h
      refine r_cIN (Wd := 3) X (fun l D sz => w_X3_init l D sz h7) rfl rfl q145 q144 q106 q146 hy_X3_init rfl dX2_init_28 rfl rfl (by simp only [List.map_cons, List.map_nil, cat_rf, cat_iv, cat_jv, cat_ref, List.sum_cons, List.sum_nil]; decide) ⟨Nat.le_of_ble_eq_true rfl, Nat.le_of_ble_eq_true rfl⟩ ⟨(by show (2 + (4 - cn) * 5) + 4 ≤ 26; omega), (by show (8 + (4 - cn) * 10025) + 10021 ≤ 50129; omega)⟩ ?_
      refine V.widen (k' := (6 + (4 - cn) * 5)) (n' := (10029 + (4 - cn) * 10025)) (by show _ ≤ _; omega) (by show _ ≤ _; omega) ?_
      obtain ⟨ho9, h⟩ := cO_some h
      obtain ⟨hv10, h⟩ := ck_some h
      rw [← hv10]
      obtain ⟨ho11, h⟩ := cO_some h
      refine r_aast X ho9.1 (ho9.2 0 (by decide)) rfl rfl (by decide) ho11.1 rfl rfl (by decide) dX2_init_31 h (fun h => ?_)
      refine r_let h (fun σ12 eσ12 h => ?_)
      refine r_iinc X 1 dX2_init_32 rfl (hL 1 (by decide)) (lv' := [(1, iv ((v1_1 + 1))), (0, .ref (a0))]) rfl ?_
      refine r_goto (tgt := 14) X dX2_init_35 (by decide) ?_
      exact V.widen (by show _ ≤ _; omega) (by show _ ≤ _; omega) <| V.sub [1, 0] rfl (ihb1 _ (Option.some.inj h).symm)
  exact V.sub [1, 0] rfl (L14 (4, 0, σ1) h)
theorem hy_X5_init : yX5_init.cls ≠ "java/lang/invoke/MethodHandle" ∧ yX5_init.cls ≠ "java/lang/invoke/VarHandle" ∧ (parseMethodDescriptor yX5_init.desc).map (fun d => d.parameters.length) = some 0 := by decide +kernel
set_option maxHeartbeats 4000000 in
theorem w_X5_init (l : Launch) (D : DD) (sz : Nat) {σ : St} {a0 : Nat} {w : St} (h : f_X5_init σ a0 = some w) : Mt l yX5_init cX5_init 1 none ({ frames := 1, cells := 13, slots := 30090, locals := 12 } : Room) D sz σ [.ref a0] (.returned none) (w) 13 30090 := by
  refine Mt.of (by decide +kernel) (Nat.le_of_ble_eq_true rfl) ?_
  intro Γ X hr hnl hini hnoh
  have X : Cx Γ cX5_init "DayBoy$Head" _ := X
  have hL : ∀ i, i < 1 → i < nLc Γ := fun i q => by rw [hnl]; exact q
  have hini := hini rfl
  show V Γ σ 0 0 0 [(0, .ref (a0))] []
  unfold f_X5_init at h
  obtain ⟨hc0, h⟩ := ck_some h
  refine r_aload_n X 0 dX5_init_0 rfl rfl ?_
  refine r_objInit X q202 q133 q134 dX5_init_1 (by decide) (Nat.le_of_ble_eq_true rfl) ?_
  refine r_aload_n X 0 dX5_init_4 rfl rfl ?_
  refine r_bipush X dX5_init_5 (by decide) ?_
  refine r_newA (kf := 0) (t := .int) (atype := .int) X hini hc0 rfl (by decide) (by decide) rfl rfl (by decide) (fun U cA h => h) rfl q170 q203 rfl rfl rfl rfl (by decide) dX5_init_7 dX5_init_9 (by decide) (by decide) ?_
  refine r_let h (fun σ1 eσ1 h => ?_)
  refine r_aload_n X 0 dX5_init_12 rfl rfl ?_
  refine r_bipush X dX5_init_13 (by decide) ?_
  have hk2 : cL σ1 (a0) = some 4 := by rw [eσ1]; exact hc0
  refine r_newA (kf := 1) (t := .int) (atype := .int) X hini hk2 rfl (by decide) (by decide) rfl rfl (by decide) (fun U cA h => h) rfl q170 q205 rfl rfl rfl rfl (by decide) dX5_init_15 dX5_init_17 (by decide) (by decide) ?_
  refine r_let h (fun σ3 eσ3 h => ?_)
  refine r_aload_n X 0 dX5_init_20 rfl rfl ?_
  refine r_bipush X dX5_init_21 (by decide) ?_
  have hk4 : cL σ3 (a0) = some 4 := by rw [eσ3]; exact hk2
  refine r_newA (kf := 2) (t := .int) (atype := .int) X hini hk4 rfl (by decide) (by decide) rfl rfl (by decide) (fun U cA h => h) rfl q170 q207 rfl rfl rfl rfl (by decide) dX5_init_23 dX5_init_25 (by decide) (by decide) ?_
  refine r_let h (fun σ5 eσ5 h => ?_)
  refine r_aload_n X 0 dX5_init_28 rfl rfl ?_
  refine r_bipush X dX5_init_29 (by decide) ?_
  have hk6 : cL σ5 (a0) = some 4 := by rw [eσ5]; exact hk4
  refine r_newA (kf := 3) (t := .int) (atype := .int) X hini hk6 rfl (by decide) (by decide) rfl rfl (by decide) (fun U cA h => h) rfl q170 q211 rfl rfl rfl rfl (by decide) dX5_init_31 dX5_init_33 (by decide) (by decide) ?_
  refine r_let h (fun σ7 eσ7 h => ?_)
  refine r_aload_n X 0 dX5_init_36 rfl rfl ?_
  refine r_bipush X dX5_init_37 (by decide) ?_
  have hk8 : cL σ7 (a0) = some 4 := by rw [eσ7]; exact hk6
  refine r_newA (kf := 4) (t := .int) (atype := .int) X hini hk8 rfl (by decide) (by decide) rfl rfl (by decide) (fun U cA h => h) rfl q170 q214 rfl rfl rfl rfl (by decide) dX5_init_39 dX5_init_41 (by decide) (by decide) ?_
  refine r_let h (fun σ9 eσ9 h => ?_)
  refine r_aload_n X 0 dX5_init_44 rfl rfl ?_
  refine r_bipush X dX5_init_45 (by decide) ?_
  have hk10 : cL σ9 (a0) = some 4 := by rw [eσ9]; exact hk8
  refine r_newA (kf := 5) (t := .int) (atype := .int) X hini hk10 rfl (by decide) (by decide) rfl rfl (by decide) (fun U cA h => h) rfl q170 q217 rfl rfl rfl rfl (by decide) dX5_init_47 dX5_init_49 (by decide) (by decide) ?_
  refine r_let h (fun σ11 eσ11 h => ?_)
  refine r_aload_n X 0 dX5_init_52 rfl rfl ?_
  refine r_bipush X dX5_init_53 (by decide) ?_
  have hk12 : cL σ11 (a0) = some 4 := by rw [eσ11]; exact hk10
  refine r_newA (kf := 6) (t := .int) (atype := .int) X hini hk12 rfl (by decide) (by decide) rfl rfl (by decide) (fun U cA h => h) rfl q170 q220 rfl rfl rfl rfl (by decide) dX5_init_55 dX5_init_57 (by decide) (by decide) ?_
  refine r_let h (fun σ13 eσ13 h => ?_)
  refine r_aload_n X 0 dX5_init_60 rfl rfl ?_
  refine r_iconst X dX5_init_61 ?_
  have hk14 : cL σ13 (a0) = some 4 := by rw [eσ13]; exact hk12
  refine r_newA (kf := 7) (t := .int) (atype := .int) X hini hk14 rfl (by decide) (by decide) rfl rfl (by decide) (fun U cA h => h) rfl q170 q222 rfl rfl rfl rfl (by decide) dX5_init_62 dX5_init_64 (by decide) (by decide) ?_
  refine r_let h (fun σ15 eσ15 h => ?_)
  refine r_aload_n X 0 dX5_init_67 rfl rfl ?_
  refine r_bipush X dX5_init_68 (by decide) ?_
  have hk16 : cL σ15 (a0) = some 4 := by rw [eσ15]; exact hk14
  refine r_newA (kf := 8) (t := .boolean) (atype := .boolean) X hini hk16 rfl (by decide) (by decide) rfl rfl (by decide) (fun U cA h => h) rfl q171 q225 rfl rfl rfl rfl (by decide) dX5_init_70 dX5_init_72 (by decide) (by decide) ?_
  refine r_let h (fun σ17 eσ17 h => ?_)
  refine r_aload_n X 0 dX5_init_75 rfl rfl ?_
  refine r_sipush X dX5_init_76 (by decide) ?_
  have hk18 : cL σ17 (a0) = some 4 := by rw [eσ17]; exact hk16
  refine r_newA (kf := 9) (t := .long) (atype := .long) X hini hk18 rfl (by decide) (by decide) rfl rfl (by decide) (fun U cA h => h) rfl q297 q228 rfl rfl rfl rfl (by decide) dX5_init_79 dX5_init_81 (by decide) (by decide) ?_
  refine r_let h (fun σ19 eσ19 h => ?_)
  refine r_aload_n X 0 dX5_init_84 rfl rfl ?_
  refine r_bipush X dX5_init_85 (by decide) ?_
  have hk20 : cL σ19 (a0) = some 4 := by rw [eσ19]; exact hk18
  refine r_newA (kf := 10) (t := .long) (atype := .long) X hini hk20 rfl (by decide) (by decide) rfl rfl (by decide) (fun U cA h => h) rfl q297 q230 rfl rfl rfl rfl (by decide) dX5_init_87 dX5_init_89 (by decide) (by decide) ?_
  refine r_let h (fun σ21 eσ21 h => ?_)
  refine r_aload_n X 0 dX5_init_92 rfl rfl ?_
  refine r_sipush X dX5_init_93 (by decide) ?_
  have hk22 : cL σ21 (a0) = some 4 := by rw [eσ21]; exact hk20
  refine r_newA (kf := 11) (t := .int) (atype := .int) X hini hk22 rfl (by decide) (by decide) rfl rfl (by decide) (fun U cA h => h) rfl q170 q232 rfl rfl rfl rfl (by decide) dX5_init_96 dX5_init_98 (by decide) (by decide) ?_
  refine r_let h (fun σ23 eσ23 h => ?_)
  refine r_aload_n X 0 dX5_init_101 rfl rfl ?_
  refine r_sipush X dX5_init_102 (by decide) ?_
  have hk24 : cL σ23 (a0) = some 4 := by rw [eσ23]; exact hk22
  refine r_newA (kf := 12) (t := .boolean) (atype := .boolean) X hini hk24 rfl (by decide) (by decide) rfl rfl (by decide) (fun U cA h => h) rfl q171 q233 rfl rfl rfl rfl (by decide) dX5_init_105 dX5_init_107 (by decide) (by decide) ?_
  refine r_let h (fun σ25 eσ25 h => ?_)
  refine r_aload_n X 0 dX5_init_110 rfl rfl ?_
  refine r_iconst X dX5_init_111 ?_
  have hk26 : cL σ25 (a0) = some 4 := by rw [eσ25]; exact hk24
  refine r_putI (kf := 16) X hk26 rfl (by decide) rfl rfl (Or.inl q245) dX5_init_112 rfl ?_
  refine r_let h (fun σ27 eσ27 h => ?_)
  cases h
  exact r_vret X hr dX5_init_115
theorem hy_X1_init : yX1_init.cls ≠ "java/lang/invoke/MethodHandle" ∧ yX1_init.cls ≠ "java/lang/invoke/VarHandle" ∧ (parseMethodDescriptor yX1_init.desc).map (fun d => d.parameters.length) = some 0 := by decide +kernel
set_option maxHeartbeats 4000000 in
theorem w_X1_init (l : Launch) (D : DD) (sz : Nat) {σ : St} {a0 : Nat} {w : St} (h : f_X1_init σ a0 = some w) : Mt l yX1_init cX1_init 1 none ({ frames := 4, cells := 63, slots := 101812, locals := 56 } : Room) D sz σ [.ref a0] (.returned none) (w) 63 101812 := by
  refine Mt.of (by decide +kernel) (Nat.le_of_ble_eq_true rfl) ?_
  intro Γ X hr hnl hini hnoh
  have X : Cx Γ cX1_init "DayBoy" _ := X
  have hL : ∀ i, i < 1 → i < nLc Γ := fun i q => by rw [hnl]; exact q
  have hini := hini rfl
  show V Γ σ 0 0 0 [(0, .ref (a0))] []
  unfold f_X1_init at h
  obtain ⟨hc0, h⟩ := ck_some h
  refine r_aload_n X 0 dX1_init_0 rfl rfl ?_
  refine r_objInit X q132 q133 q134 dX1_init_1 (by decide) (Nat.le_of_ble_eq_true rfl) ?_
  refine r_aload_n X 0 dX1_init_4 rfl rfl ?_
  refine r_sipush X dX1_init_5 (by decide) ?_
  refine r_newA (kf := 0) (t := .byte) (atype := .byte) X hini hc0 rfl (by decide) (by decide) rfl rfl (by decide) (fun U cA h => h) rfl q169 q302 rfl rfl rfl rfl (by decide) dX1_init_8 dX1_init_10 (by decide) (by decide) ?_
  refine r_let h (fun σ1 eσ1 h => ?_)
  refine r_aload_n X 0 dX1_init_13 rfl rfl ?_
  refine r_new (c := 1) (N := 2) X rfl rfl (by decide) q135 q136 q105 dX1_init_14 (by decide) (by decide) ?_
  refine r_let h (fun σ2 eσ2 h => ?_)
  have hk3 : cL σ2 (nX (σ1)) = some 1 := by rw [eσ2, cL_nO, if_pos rfl]
  refine r_dup X dX1_init_17 rfl ?_
  obtain ⟨σ5, h4, h⟩ := bd_some h
  refine r_cI (Wd := 2) X (fun l D sz => w_X2_init l D sz h4) rfl rfl q138 q137 q105 q139 hy_X2_init rfl dX1_init_18 rfl rfl (Nat.le_of_ble_eq_true rfl) ⟨Nat.le_of_ble_eq_true rfl, Nat.le_of_ble_eq_true rfl⟩ ⟨Nat.le_of_ble_eq_true rfl, Nat.le_of_ble_eq_true rfl⟩ ?_
  obtain ⟨ho6, h⟩ := cO_some h
  refine r_putP (kf := 2) X ho6.1 rfl (by decide) rfl rfl (Or.inl q306) dX1_init_21 rfl ?_
  refine r_let h (fun σ7 eσ7 h => ?_)
  refine r_aload_n X 0 dX1_init_24 rfl rfl ?_
  refine r_new (c := 4) (N := 22) X rfl rfl (by decide) q197 q198 q108 dX1_init_25 (by decide) (by decide) ?_
  refine r_let h (fun σ8 eσ8 h => ?_)
  have hk9 : cL σ8 (nX (σ7)) = some 4 := by rw [eσ8, cL_nO, if_pos rfl]
  refine r_dup X dX1_init_28 rfl ?_
  obtain ⟨σ11, h10, h⟩ := bd_some h
  refine r_cIN (Wd := 2) X (fun l D sz => w_X5_init l D sz h10) rfl rfl q200 q199 q108 q201 hy_X5_init rfl dX1_init_29 rfl rfl (Nat.le_of_ble_eq_true rfl) ⟨Nat.le_of_ble_eq_true rfl, Nat.le_of_ble_eq_true rfl⟩ ⟨Nat.le_of_ble_eq_true rfl, Nat.le_of_ble_eq_true rfl⟩ ?_
  obtain ⟨ho12, h⟩ := cO_some h
  refine r_putP (kf := 3) X ho12.1 rfl (by decide) rfl rfl (Or.inl q308) dX1_init_32 rfl ?_
  refine r_let h (fun σ13 eσ13 h => ?_)
  refine r_aload_n X 0 dX1_init_35 rfl rfl ?_
  refine r_bipush X dX1_init_36 (by decide) ?_
  have hk14 : oc σ13 (a0) 0 := by rw [eσ13]; exact ho12
  refine r_newQ (kf := 4) X hini hk14.1 rfl (by decide) rfl rfl (by decide) rfl q298 q135 q310 rfl rfl rfl rfl (by decide) dX1_init_38 dX1_init_41 (by decide) (by decide) ?_
  refine r_let h (fun σ15 eσ15 h => ?_)
  refine r_aload_n X 0 dX1_init_44 rfl rfl ?_
  refine r_bipush X dX1_init_45 (by decide) ?_
  have hk16 : cL σ15 (a0) = some 0 := by rw [eσ15]; exact hk14.1
  refine r_newQ (kf := 5) X hini hk16 rfl (by decide) rfl rfl (by decide) rfl q299 q197 q311 rfl rfl rfl rfl (by decide) dX1_init_47 dX1_init_50 (by decide) (by decide) ?_
  refine r_let h (fun σ17 eσ17 h => ?_)
  refine r_aload_n X 0 dX1_init_53 rfl rfl ?_
  refine r_sipush X dX1_init_54 (by decide) ?_
  have hk18 : cL σ17 (a0) = some 0 := by rw [eσ17]; exact hk16
  refine r_newA (kf := 8) (t := .int) (atype := .int) X hini hk18 rfl (by decide) (by decide) rfl rfl (by decide) (fun U cA h => h) rfl q170 q314 rfl rfl rfl rfl (by decide) dX1_init_57 dX1_init_59 (by decide) (by decide) ?_
  refine r_let h (fun σ19 eσ19 h => ?_)
  refine r_aload_n X 0 dX1_init_62 rfl rfl ?_
  refine r_sipush X dX1_init_63 (by decide) ?_
  have hk20 : cL σ19 (a0) = some 0 := by rw [eσ19]; exact hk18
  refine r_newA (kf := 9) (t := .int) (atype := .int) X hini hk20 rfl (by decide) (by decide) rfl rfl (by decide) (fun U cA h => h) rfl q170 q316 rfl rfl rfl rfl (by decide) dX1_init_66 dX1_init_68 (by decide) (by decide) ?_
  refine r_let h (fun σ21 eσ21 h => ?_)
  refine r_aload_n X 0 dX1_init_71 rfl rfl ?_
  refine r_bipush X dX1_init_72 (by decide) ?_
  have hk22 : cL σ21 (a0) = some 0 := by rw [eσ21]; exact hk20
  refine r_newQ (kf := 12) X hini hk22 rfl (by decide) rfl rfl (by decide) rfl q301 q300 q319 rfl rfl rfl rfl (by decide) dX1_init_74 dX1_init_77 (by decide) (by decide) ?_
  refine r_let h (fun σ23 eσ23 h => ?_)
  refine r_aload_n X 0 dX1_init_80 rfl rfl ?_
  refine r_iconst X dX1_init_81 ?_
  have hk24 : cL σ23 (a0) = some 0 := by rw [eσ23]; exact hk22
  refine r_putI (kf := 14) X hk24 rfl (by decide) rfl rfl (Or.inl q321) dX1_init_82 rfl ?_
  refine r_let h (fun σ25 eσ25 h => ?_)
  refine r_aload_n X 0 dX1_init_85 rfl rfl ?_
  refine r_bipush X dX1_init_86 (by decide) ?_
  have hk26 : cL σ25 (a0) = some 0 := by rw [eσ25]; exact hk24
  refine r_newA (kf := 16) (t := .int) (atype := .int) X hini hk26 rfl (by decide) (by decide) rfl rfl (by decide) (fun U cA h => h) rfl q170 q323 rfl rfl rfl rfl (by decide) dX1_init_88 dX1_init_90 (by decide) (by decide) ?_
  refine r_let h (fun σ27 eσ27 h => ?_)
  refine r_aload_n X 0 dX1_init_93 rfl rfl ?_
  refine r_bipush X dX1_init_94 (by decide) ?_
  have hk28 : cL σ27 (a0) = some 0 := by rw [eσ27]; exact hk26
  refine r_newA (kf := 17) (t := .int) (atype := .int) X hini hk28 rfl (by decide) (by decide) rfl rfl (by decide) (fun U cA h => h) rfl q170 q324 rfl rfl rfl rfl (by decide) dX1_init_96 dX1_init_98 (by decide) (by decide) ?_
  refine r_let h (fun σ29 eσ29 h => ?_)
  refine r_aload_n X 0 dX1_init_101 rfl rfl ?_
  refine r_bipush X dX1_init_102 (by decide) ?_
  have hk30 : cL σ29 (a0) = some 0 := by rw [eσ29]; exact hk28
  refine r_newA (kf := 18) (t := .int) (atype := .int) X hini hk30 rfl (by decide) (by decide) rfl rfl (by decide) (fun U cA h => h) rfl q170 q325 rfl rfl rfl rfl (by decide) dX1_init_104 dX1_init_106 (by decide) (by decide) ?_
  refine r_let h (fun σ31 eσ31 h => ?_)
  refine r_aload_n X 0 dX1_init_109 rfl rfl ?_
  refine r_bipush X dX1_init_110 (by decide) ?_
  have hk32 : cL σ31 (a0) = some 0 := by rw [eσ31]; exact hk30
  refine r_newA (kf := 19) (t := .int) (atype := .int) X hini hk32 rfl (by decide) (by decide) rfl rfl (by decide) (fun U cA h => h) rfl q170 q326 rfl rfl rfl rfl (by decide) dX1_init_112 dX1_init_114 (by decide) (by decide) ?_
  refine r_let h (fun σ33 eσ33 h => ?_)
  refine r_aload_n X 0 dX1_init_117 rfl rfl ?_
  refine r_sipush X dX1_init_118 (by decide) ?_
  have hk34 : cL σ33 (a0) = some 0 := by rw [eσ33]; exact hk32
  refine r_newA (kf := 21) (t := .int) (atype := .int) X hini hk34 rfl (by decide) (by decide) rfl rfl (by decide) (fun U cA h => h) rfl q170 q328 rfl rfl rfl rfl (by decide) dX1_init_121 dX1_init_123 (by decide) (by decide) ?_
  refine r_let h (fun σ35 eσ35 h => ?_)
  refine r_aload_n X 0 dX1_init_126 rfl rfl ?_
  refine r_new (c := 4) (N := 22) X rfl rfl (by decide) q197 q198 q108 dX1_init_127 (by decide) (by decide) ?_
  refine r_let h (fun σ36 eσ36 h => ?_)
  have hk37 : cL σ36 (nX (σ35)) = some 4 := by rw [eσ36, cL_nO, if_pos rfl]
  refine r_dup X dX1_init_130 rfl ?_
  obtain ⟨σ39, h38, h⟩ := bd_some h
  refine r_cIN (Wd := 2) X (fun l D sz => w_X5_init l D sz h38) rfl rfl q200 q199 q108 q201 hy_X5_init rfl dX1_init_131 rfl rfl (Nat.le_of_ble_eq_true rfl) ⟨Nat.le_of_ble_eq_true rfl, Nat.le_of_ble_eq_true rfl⟩ ⟨Nat.le_of_ble_eq_true rfl, Nat.le_of_ble_eq_true rfl⟩ ?_
  obtain ⟨ho40, h⟩ := cO_some h
  refine r_putPF (kf := 22) X hini ho40.1 rfl (by decide) rfl rfl q329 rfl dX1_init_134 rfl ?_
  refine r_let h (fun σ41 eσ41 h => ?_)
  refine r_aload_n X 0 dX1_init_137 rfl rfl ?_
  refine r_bipush X dX1_init_138 (by decide) ?_
  have hk42 : oc σ41 (a0) 0 := by rw [eσ41]; exact ho40
  refine r_newA (kf := 23) (t := .int) (atype := .int) X hini hk42.1 rfl (by decide) (by decide) rfl rfl (by decide) (fun U cA h => h) rfl q170 q330 rfl rfl rfl rfl (by decide) dX1_init_140 dX1_init_142 (by decide) (by decide) ?_
  refine r_let h (fun σ43 eσ43 h => ?_)
  refine r_aload_n X 0 dX1_init_145 rfl rfl ?_
  refine r_bipush X dX1_init_146 (by decide) ?_
  have hk44 : cL σ43 (a0) = some 0 := by rw [eσ43]; exact hk42.1
  refine r_newA (kf := 24) (t := .int) (atype := .int) X hini hk44 rfl (by decide) (by decide) rfl rfl (by decide) (fun U cA h => h) rfl q170 q331 rfl rfl rfl rfl (by decide) dX1_init_148 dX1_init_150 (by decide) (by decide) ?_
  refine r_let h (fun σ45 eσ45 h => ?_)
  cases h
  exact r_vret X hr dX1_init_153
theorem hy_X1_bytes : yX1_bytes.cls ≠ "java/lang/invoke/MethodHandle" ∧ yX1_bytes.cls ≠ "java/lang/invoke/VarHandle" ∧ (parseMethodDescriptor yX1_bytes.desc).map (fun d => d.parameters.length) = some 1 := by decide +kernel
set_option maxHeartbeats 4000000 in
theorem w_X1_bytes (l : Launch) (D : DD) (sz : Nat) {σ : St} {x0 : Int} {w : Int} (h : f_X1_bytes σ x0 = some w) : Mt l yX1_bytes cX1_bytes 3 (some FieldType.int) ({ frames := 0, cells := 0, slots := 0, locals := 0 } : Room) D sz σ [iv (x0)] (.returned (some (iv w))) (σ) 0 0 := by
  refine Mt.of (by decide +kernel) (Nat.le_of_ble_eq_true rfl) ?_
  intro Γ X hr hnl hini hnoh
  have X : Cx Γ cX1_bytes "DayBoy" _ := X
  have hL : ∀ i, i < 3 → i < nLc Γ := fun i q => by rw [hnl]; exact q
  show V Γ σ 0 0 0 [(0, iv (x0))] []
  unfold f_X1_bytes at h
  refine r_iconst X dX1_bytes_0 ?_
  refine r_istore_n X dX1_bytes_1 rfl (hL 1 (by decide)) (lv' := [(1, iv (0)), (0, iv (x0))]) rfl ?_
  refine r_bipush X dX1_bytes_2 (by decide) ?_
  refine r_istore_n X dX1_bytes_4 rfl (hL 2 (by decide)) (lv' := [(2, iv (24)), (1, iv (0)), (0, iv (x0))]) rfl ?_
  have L5 : ∀ s : Int × Int, lp (fun s => f_X1_bytes_b5 (σ) (x0) s.1 s.2) s = some w → V Γ (σ) 0 0 5 [(0, iv (x0)), (1, iv (s.1)), (2, iv (s.2))] [] := by
    refine lp_rule (P := fun s : Int × Int => V Γ (σ) 0 0 5 [(0, iv (x0)), (1, iv (s.1)), (2, iv (s.2))] []) ?_
    intro s z1 h ihb1 ihe1
    obtain ⟨v1_1, v2_1⟩ := s
    have h : f_X1_bytes_b5 (σ) (x0) v1_1 v2_1 = some z1 := h
    unfold f_X1_bytes_b5 at h
    show V Γ σ 0 0 5 [(0, iv (x0)), (1, iv (v1_1)), (2, iv (v2_1))] []
    refine r_iload_n X 2 dX1_bytes_5 rfl rfl ?_
    refine r_if_lt (tgt := 33) X dX1_bytes_6 (by decide) h (fun c1 h => ?_) (fun c1 h => ?_)
    · have h := ex_some h ihe1
      refine r_iload_n X 1 dX1_bytes_33 rfl rfl ?_
      cases h
      exact r_iret X hr dX1_bytes_34
    · refine r_iload_n X 1 dX1_bytes_9 rfl rfl ?_
      refine r_iload_n X 0 dX1_bytes_10 rfl rfl ?_
      refine r_iload_n X 2 dX1_bytes_11 rfl rfl ?_
      refine r_ishr X dX1_bytes_12 ?_
      refine r_sipush X dX1_bytes_13 (by decide) ?_
      refine r_iand X dX1_bytes_16 ?_
      refine r_if_eq (tgt := 24) X dX1_bytes_17 (by decide) h (fun c2 h => ?_) (fun c2 h => ?_)
      · refine r_iconst X dX1_bytes_24 ?_
        refine r_iadd X dX1_bytes_25 ?_
        refine r_istore_n X dX1_bytes_26 rfl (hL 1 (by decide)) (lv' := [(1, iv ((v1_1 + 0))), (0, iv (x0)), (2, iv (v2_1))]) rfl ?_
        refine r_iinc X 2 dX1_bytes_27 rfl (hL 2 (by decide)) (lv' := [(2, iv ((v2_1 + (-8)))), (1, iv ((v1_1 + 0))), (0, iv (x0))]) rfl ?_
        refine r_goto (tgt := 5) X dX1_bytes_30 (by decide) ?_
        exact V.sub [2, 1, 0] rfl (ihb1 _ (Option.some.inj h).symm)
      · refine r_iconst X dX1_bytes_20 ?_
        refine r_goto (tgt := 25) X dX1_bytes_21 (by decide) ?_
        refine r_iadd X dX1_bytes_25 ?_
        refine r_istore_n X dX1_bytes_26 rfl (hL 1 (by decide)) (lv' := [(1, iv ((v1_1 + 1))), (0, iv (x0)), (2, iv (v2_1))]) rfl ?_
        refine r_iinc X 2 dX1_bytes_27 rfl (hL 2 (by decide)) (lv' := [(2, iv ((v2_1 + (-8)))), (1, iv ((v1_1 + 1))), (0, iv (x0))]) rfl ?_
        refine r_goto (tgt := 5) X dX1_bytes_30 (by decide) ?_
        exact V.sub [2, 1, 0] rfl (ihb1 _ (Option.some.inj h).symm)
  exact V.sub [2, 1, 0] rfl (L5 (0, 24) h)
theorem hy_X1_bring : yX1_bring.cls ≠ "java/lang/invoke/MethodHandle" ∧ yX1_bring.cls ≠ "java/lang/invoke/VarHandle" ∧ (parseMethodDescriptor yX1_bring.desc).map (fun d => d.parameters.length) = some 1 := by decide +kernel
set_option maxHeartbeats 4000000 in
theorem w_X1_bring (l : Launch) (D : DD) (sz : Nat) {σ : St} {a0 : Nat} {x1 : Int} {w : St} (h : f_X1_bring σ a0 x1 = some w) : Mt l yX1_bring cX1_bring 3 none ({ frames := 0, cells := 0, slots := 0, locals := 0 } : Room) D sz σ [.ref a0, iv (x1)] (.returned none) (w) 0 0 := by
  refine Mt.of (by decide +kernel) (Nat.le_of_ble_eq_true rfl) ?_
  intro Γ X hr hnl hini hnoh
  have X : Cx Γ cX1_bring "DayBoy" _ := X
  have hL : ∀ i, i < 3 → i < nLc Γ := fun i q => by rw [hnl]; exact q
  show V Γ σ 0 0 0 [(0, .ref (a0)), (1, iv (x1))] []
  unfold f_X1_bring at h
  obtain ⟨ho0, h⟩ := cO_some h
  refine r_bipush X dX1_bring_0 (by decide) ?_
  refine r_istore_n X dX1_bring_2 rfl (hL 2 (by decide)) (lv' := [(2, iv (24)), (0, .ref (a0)), (1, iv (x1))]) rfl ?_
  have L3 : ∀ s : Int × St, lp (fun s => f_X1_bring_b3 (a0) (x1) s.1 s.2) s = some w → V Γ (s.2) 0 0 3 [(0, .ref (a0)), (1, iv (x1)), (2, iv (s.1))] [] := by
    refine lp_rule (P := fun s : Int × St => V Γ (s.2) 0 0 3 [(0, .ref (a0)), (1, iv (x1)), (2, iv (s.1))] []) ?_
    intro s z1 h ihb1 ihe1
    obtain ⟨v2_1, σ_1⟩ := s
    have h : f_X1_bring_b3 (a0) (x1) v2_1 σ_1 = some z1 := h
    unfold f_X1_bring_b3 at h
    show V Γ σ_1 0 0 3 [(0, .ref (a0)), (1, iv (x1)), (2, iv (v2_1))] []
    refine r_iload_n X 2 dX1_bring_3 rfl rfl ?_
    refine r_if_lt (tgt := 49) X dX1_bring_4 (by decide) h (fun c1 h => ?_) (fun c1 h => ?_)
    · have h := ex_some h ihe1
      cases h
      exact r_vret X hr dX1_bring_49
    · refine r_iload_n X 1 dX1_bring_7 rfl rfl ?_
      refine r_iload_n X 2 dX1_bring_8 rfl rfl ?_
      refine r_ishr X dX1_bring_9 ?_
      refine r_sipush X dX1_bring_10 (by decide) ?_
      refine r_iand X dX1_bring_13 ?_
      refine r_if_ne (tgt := 20) X dX1_bring_14 (by decide) h (fun c2 h => ?_) (fun c2 h => ?_)
      · refine r_goto (tgt := 43) X dX1_bring_17 (by decide) ?_
        refine r_iinc X 2 dX1_bring_43 rfl (hL 2 (by decide)) (lv' := [(2, iv ((v2_1 + (-8)))), (0, .ref (a0)), (1, iv (x1))]) rfl ?_
        refine r_goto (tgt := 3) X dX1_bring_46 (by decide) ?_
        exact V.sub [1, 2, 0] rfl (ihb1 _ (Option.some.inj h).symm)
      · refine r_aload_n X 0 dX1_bring_20 rfl rfl ?_
        obtain ⟨ho3, h⟩ := cO_some h
        refine r_getA (kf := 0) X ho3.1 rfl (by decide) (by decide) (Or.inl q302) dX1_bring_21 ?_
        refine r_aload_n X 0 dX1_bring_24 rfl rfl ?_
        refine r_getI (kf := 1) X ho3.1 rfl (by decide) rfl (Or.inl q305) dX1_bring_25 ?_
        refine r_iload_n X 1 dX1_bring_28 rfl rfl ?_
        refine r_iload_n X 2 dX1_bring_29 rfl rfl ?_
        refine r_ishr X dX1_bring_30 ?_
        refine r_i2b X dX1_bring_31 ?_
        refine r_bast X ho3.1 (ho3.2 0 (by decide)) rfl rfl rfl (by decide) dX1_bring_32 h (fun h => ?_)
        refine r_let h (fun σ4 eσ4 h => ?_)
        refine r_aload_n X 0 dX1_bring_33 rfl rfl ?_
        refine r_dup X dX1_bring_34 rfl ?_
        have hk5 : oc σ4 (a0) 0 := by rw [eσ4]; exact ho3
        refine r_getI (kf := 1) X hk5.1 rfl (by decide) rfl (Or.inl q305) dX1_bring_35 ?_
        refine r_iconst X dX1_bring_38 ?_
        refine r_iadd X dX1_bring_39 ?_
        refine r_putI (kf := 1) X hk5.1 rfl (by decide) rfl rfl (Or.inl q305) dX1_bring_40 rfl ?_
        refine r_let h (fun σ6 eσ6 h => ?_)
        refine r_iinc X 2 dX1_bring_43 rfl (hL 2 (by decide)) (lv' := [(2, iv ((v2_1 + (-8)))), (0, .ref (a0)), (1, iv (x1))]) rfl ?_
        refine r_goto (tgt := 3) X dX1_bring_46 (by decide) ?_
        exact V.sub [1, 2, 0] rfl (ihb1 _ (Option.some.inj h).symm)
  exact V.sub [1, 2, 0] rfl (L3 (24, σ) h)
theorem hy_X1_feed : yX1_feed.cls ≠ "java/lang/invoke/MethodHandle" ∧ yX1_feed.cls ≠ "java/lang/invoke/VarHandle" ∧ (parseMethodDescriptor yX1_feed.desc).map (fun d => d.parameters.length) = some 5 := by decide +kernel
set_option maxHeartbeats 4000000 in
theorem w_X1_feed (l : Launch) (D : DD) (sz : Nat) {σ : St} {a0 : Nat} {x1 : Int} {x2 : Int} {x3 : Int} {x4 : Int} {x5 : Int} {w : Int × St} (h : f_X1_feed σ a0 x1 x2 x3 x4 x5 = some w) : Mt l yX1_feed cX1_feed 7 (some FieldType.int) ({ frames := 1, cells := 0, slots := 0, locals := 15 } : Room) D sz σ [.ref a0, iv (x1), iv (x2), iv (x3), iv (x4), iv (x5)] (.returned (some (iv w.1))) (w.2) 0 0 := by
  refine Mt.of (by decide +kernel) (Nat.le_of_ble_eq_true rfl) ?_
  intro Γ X hr hnl hini hnoh
  have X : Cx Γ cX1_feed "DayBoy" _ := X
  have hL : ∀ i, i < 7 → i < nLc Γ := fun i q => by rw [hnl]; exact q
  show V Γ σ 0 0 0 [(0, .ref (a0)), (1, iv (x1)), (2, iv (x2)), (3, iv (x3)), (4, iv (x4)), (5, iv (x5))] []
  unfold f_X1_feed at h
  obtain ⟨ho0, h⟩ := cO_some h
  refine r_iload_n X 1 dX1_feed_0 rfl rfl ?_
  obtain ⟨r2, h1, h⟩ := bd_some h
  refine r_cS (Wd := 0) X (fun l D sz => w_X1_bytes l D sz h1) q397 q396 q104 q398 hy_X1_bytes rfl dX1_feed_1 rfl rfl (Nat.le_of_ble_eq_true rfl) ⟨Nat.le_of_ble_eq_true rfl, Nat.le_of_ble_eq_true rfl⟩ ⟨Nat.le_of_ble_eq_true rfl, Nat.le_of_ble_eq_true rfl⟩ ?_
  refine r_iload_n X 2 dX1_feed_4 rfl rfl ?_
  obtain ⟨r4, h3, h⟩ := bd_some h
  refine r_cS (Wd := 1) X (fun l D sz => w_X1_bytes l D sz h3) q397 q396 q104 q398 hy_X1_bytes rfl dX1_feed_5 rfl rfl (Nat.le_of_ble_eq_true rfl) ⟨Nat.le_of_ble_eq_true rfl, Nat.le_of_ble_eq_true rfl⟩ ⟨Nat.le_of_ble_eq_true rfl, Nat.le_of_ble_eq_true rfl⟩ ?_
  refine r_iadd X dX1_feed_8 ?_
  refine r_iload_n X 3 dX1_feed_9 rfl rfl ?_
  obtain ⟨r6, h5, h⟩ := bd_some h
  refine r_cS (Wd := 1) X (fun l D sz => w_X1_bytes l D sz h5) q397 q396 q104 q398 hy_X1_bytes rfl dX1_feed_10 rfl rfl (Nat.le_of_ble_eq_true rfl) ⟨Nat.le_of_ble_eq_true rfl, Nat.le_of_ble_eq_true rfl⟩ ⟨Nat.le_of_ble_eq_true rfl, Nat.le_of_ble_eq_true rfl⟩ ?_
  refine r_iadd X dX1_feed_13 ?_
  refine r_iload X 4 dX1_feed_14 rfl ?_
  obtain ⟨r8, h7, h⟩ := bd_some h
  refine r_cS (Wd := 1) X (fun l D sz => w_X1_bytes l D sz h7) q397 q396 q104 q398 hy_X1_bytes rfl dX1_feed_16 rfl rfl (Nat.le_of_ble_eq_true rfl) ⟨Nat.le_of_ble_eq_true rfl, Nat.le_of_ble_eq_true rfl⟩ ⟨Nat.le_of_ble_eq_true rfl, Nat.le_of_ble_eq_true rfl⟩ ?_
  refine r_iadd X dX1_feed_19 ?_
  refine r_iload X 5 dX1_feed_20 rfl ?_
  obtain ⟨r10, h9, h⟩ := bd_some h
  refine r_cS (Wd := 1) X (fun l D sz => w_X1_bytes l D sz h9) q397 q396 q104 q398 hy_X1_bytes rfl dX1_feed_22 rfl rfl (Nat.le_of_ble_eq_true rfl) ⟨Nat.le_of_ble_eq_true rfl, Nat.le_of_ble_eq_true rfl⟩ ⟨Nat.le_of_ble_eq_true rfl, Nat.le_of_ble_eq_true rfl⟩ ?_
  refine r_iadd X dX1_feed_25 ?_
  refine r_istore X dX1_feed_26 (hL 6 (by decide)) (lv' := [(6, iv (((((r2 + r4) + r6) + r8) + r10))), (0, .ref (a0)), (1, iv (x1)), (2, iv (x2)), (3, iv (x3)), (4, iv (x4)), (5, iv (x5))]) rfl ?_
  refine r_aload_n X 1 dX1_feed_28 rfl rfl ?_
  refine r_getI (kf := 1) X ho0.1 rfl (by decide) rfl (Or.inl q305) dX1_feed_29 ?_
  refine r_iload X 0 dX1_feed_32 rfl ?_
  refine r_iadd X dX1_feed_34 ?_
  refine r_sipush X dX1_feed_35 (by decide) ?_
  refine r_icmp_le (tgt := 43) X dX1_feed_38 (by decide) h (fun c11 h => ?_) (fun c11 h => ?_)
  · refine r_iconst X dX1_feed_41 ?_
    cases h
    exact r_iret X hr dX1_feed_42
  · refine r_aload_n X 1 dX1_feed_43 rfl rfl ?_
    refine r_iload_n X 2 dX1_feed_44 rfl rfl ?_
    obtain ⟨σ13, h12, h⟩ := bd_some h
    refine r_cV (Wd := 0) X (fun l D sz => w_X1_bring l D sz h12) ho0.1 rfl q401 qs0 q399 q104 q402 hy_X1_bring rfl dX1_feed_45 rfl rfl (Nat.le_of_ble_eq_true rfl) ⟨Nat.le_of_ble_eq_true rfl, Nat.le_of_ble_eq_true rfl⟩ ⟨Nat.le_of_ble_eq_true rfl, Nat.le_of_ble_eq_true rfl⟩ ?_
    refine r_aload_n X 1 dX1_feed_48 rfl rfl ?_
    refine r_iload_n X 3 dX1_feed_49 rfl rfl ?_
    obtain ⟨ho15, h⟩ := cO_some h
    obtain ⟨σ16, h14, h⟩ := bd_some h
    refine r_cV (Wd := 0) X (fun l D sz => w_X1_bring l D sz h14) ho15.1 rfl q401 qs0 q399 q104 q402 hy_X1_bring rfl dX1_feed_50 rfl rfl (Nat.le_of_ble_eq_true rfl) ⟨Nat.le_of_ble_eq_true rfl, Nat.le_of_ble_eq_true rfl⟩ ⟨Nat.le_of_ble_eq_true rfl, Nat.le_of_ble_eq_true rfl⟩ ?_
    refine r_aload_n X 1 dX1_feed_53 rfl rfl ?_
    refine r_iload_n X 4 dX1_feed_54 rfl rfl ?_
    obtain ⟨ho18, h⟩ := cO_some h
    obtain ⟨σ19, h17, h⟩ := bd_some h
    refine r_cV (Wd := 0) X (fun l D sz => w_X1_bring l D sz h17) ho18.1 rfl q401 qs0 q399 q104 q402 hy_X1_bring rfl dX1_feed_55 rfl rfl (Nat.le_of_ble_eq_true rfl) ⟨Nat.le_of_ble_eq_true rfl, Nat.le_of_ble_eq_true rfl⟩ ⟨Nat.le_of_ble_eq_true rfl, Nat.le_of_ble_eq_true rfl⟩ ?_
    refine r_aload_n X 1 dX1_feed_58 rfl rfl ?_
    refine r_iload X 5 dX1_feed_59 rfl ?_
    obtain ⟨ho21, h⟩ := cO_some h
    obtain ⟨σ22, h20, h⟩ := bd_some h
    refine r_cV (Wd := 0) X (fun l D sz => w_X1_bring l D sz h20) ho21.1 rfl q401 qs0 q399 q104 q402 hy_X1_bring rfl dX1_feed_61 rfl rfl (Nat.le_of_ble_eq_true rfl) ⟨Nat.le_of_ble_eq_true rfl, Nat.le_of_ble_eq_true rfl⟩ ⟨Nat.le_of_ble_eq_true rfl, Nat.le_of_ble_eq_true rfl⟩ ?_
    refine r_aload_n X 1 dX1_feed_64 rfl rfl ?_
    refine r_iload X 6 dX1_feed_65 rfl ?_
    obtain ⟨ho24, h⟩ := cO_some h
    obtain ⟨σ25, h23, h⟩ := bd_some h
    refine r_cV (Wd := 0) X (fun l D sz => w_X1_bring l D sz h23) ho24.1 rfl q401 qs0 q399 q104 q402 hy_X1_bring rfl dX1_feed_67 rfl rfl (Nat.le_of_ble_eq_true rfl) ⟨Nat.le_of_ble_eq_true rfl, Nat.le_of_ble_eq_true rfl⟩ ⟨Nat.le_of_ble_eq_true rfl, Nat.le_of_ble_eq_true rfl⟩ ?_
    refine r_aload_n X 1 dX1_feed_70 rfl rfl ?_
    obtain ⟨ho26, h⟩ := cO_some h
    refine r_getI (kf := 1) X ho26.1 rfl (by decide) rfl (Or.inl q305) dX1_feed_71 ?_
    cases h
    exact r_iret X hr dX1_feed_74
theorem hy_X1_end : yX1_end.cls ≠ "java/lang/invoke/MethodHandle" ∧ yX1_end.cls ≠ "java/lang/invoke/VarHandle" ∧ (parseMethodDescriptor yX1_end.desc).map (fun d => d.parameters.length) = some 1 := by decide +kernel
set_option maxHeartbeats 4000000 in
theorem w_X1_end (l : Launch) (D : DD) (sz : Nat) {σ : St} {a0 : Nat} {x1 : Int} {w : Int × St} (h : f_X1_end σ a0 x1 = some w) : Mt l yX1_end cX1_end 2 (some FieldType.boolean) ({ frames := 0, cells := 0, slots := 0, locals := 0 } : Room) D sz σ [.ref a0, iv (x1)] (.returned (some (iv w.1))) (w.2) 0 0 := by
  refine Mt.of (by decide +kernel) (Nat.le_of_ble_eq_true rfl) ?_
  intro Γ X hr hnl hini hnoh
  have X : Cx Γ cX1_end "DayBoy" _ := X
  have hL : ∀ i, i < 2 → i < nLc Γ := fun i q => by rw [hnl]; exact q
  show V Γ σ 0 0 0 [(0, .ref (a0)), (1, iv (x1))] []
  unfold f_X1_end at h
  obtain ⟨ho0, h⟩ := cO_some h
  refine r_iload_n X 1 dX1_end_0 rfl rfl ?_
  refine r_if_lt (tgt := 12) X dX1_end_1 (by decide) h (fun c1 h => ?_) (fun c1 h => ?_)
  · refine r_iconst X dX1_end_12 ?_
    cases h
    exact r_zret X hr (by decide) dX1_end_13
  · refine r_iload_n X 1 dX1_end_4 rfl rfl ?_
    refine r_aload_n X 0 dX1_end_5 rfl rfl ?_
    refine r_getI (kf := 1) X ho0.1 rfl (by decide) rfl (Or.inl q305) dX1_end_6 ?_
    refine r_icmp_le (tgt := 14) X dX1_end_9 (by decide) h (fun c3 h => ?_) (fun c3 h => ?_)
    · refine r_iconst X dX1_end_12 ?_
      cases h
      exact r_zret X hr (by decide) dX1_end_13
    · refine r_aload_n X 0 dX1_end_14 rfl rfl ?_
      refine r_iload_n X 1 dX1_end_15 rfl rfl ?_
      refine r_putI (kf := 1) X ho0.1 rfl (by decide) rfl rfl (Or.inl q305) dX1_end_16 rfl ?_
      refine r_let h (fun σ5 eσ5 h => ?_)
      refine r_iconst X dX1_end_19 ?_
      cases h
      exact r_zret X hr (by decide) dX1_end_20
theorem hy_X1_isIn : yX1_isIn.cls ≠ "java/lang/invoke/MethodHandle" ∧ yX1_isIn.cls ≠ "java/lang/invoke/VarHandle" ∧ (parseMethodDescriptor yX1_isIn.desc).map (fun d => d.parameters.length) = some 3 := by decide +kernel
set_option maxHeartbeats 4000000 in
theorem w_X1_isIn (l : Launch) (D : DD) (sz : Nat) {σ : St} {y0 : Int} {y2 : Int} {y4 : Int} {w : Int} (h : f_X1_isIn σ y0 y2 y4 = some w) : Mt l yX1_isIn cX1_isIn 6 (some FieldType.boolean) ({ frames := 0, cells := 0, slots := 0, locals := 0 } : Room) D sz σ [jv (y0), jv (y2), jv (y4)] (.returned (some (iv w))) (σ) 0 0 := by
  refine Mt.of (by decide +kernel) (Nat.le_of_ble_eq_true rfl) ?_
  intro Γ X hr hnl hini hnoh
  have X : Cx Γ cX1_isIn "DayBoy" _ := X
  have hL : ∀ i, i < 6 → i < nLc Γ := fun i q => by rw [hnl]; exact q
  show V Γ σ 0 0 0 [(0, jv (y0)), (2, jv (y2)), (4, jv (y4))] []
  unfold f_X1_isIn at h
  refine r_lload_n X 0 dX1_isIn_0 rfl rfl ?_
  refine r_lload_n X 1 dX1_isIn_1 rfl rfl ?_
  refine r_lcmp_lt (tgt := 17) X dX1_isIn_2 dX1_isIn_3 (by decide) h (fun c1 h => ?_) (fun c1 h => ?_)
  · refine r_iconst X dX1_isIn_17 ?_
    cases h
    exact r_zret X hr (by decide) dX1_isIn_18
  · refine r_lload_n X 0 dX1_isIn_6 rfl rfl ?_
    refine r_lload X 2 dX1_isIn_7 rfl ?_
    refine r_lcmp_gt (tgt := 17) X dX1_isIn_9 dX1_isIn_10 (by decide) h (fun c3 h => ?_) (fun c3 h => ?_)
    · refine r_iconst X dX1_isIn_17 ?_
      cases h
      exact r_zret X hr (by decide) dX1_isIn_18
    · refine r_iconst X dX1_isIn_13 ?_
      refine r_goto (tgt := 18) X dX1_isIn_14 (by decide) ?_
      cases h
      exact r_zret X hr (by decide) dX1_isIn_18
theorem hy_X5_clear : yX5_clear.cls ≠ "java/lang/invoke/MethodHandle" ∧ yX5_clear.cls ≠ "java/lang/invoke/VarHandle" ∧ (parseMethodDescriptor yX5_clear.desc).map (fun d => d.parameters.length) = some 0 := by decide +kernel
set_option maxHeartbeats 4000000 in
theorem w_X5_clear (l : Launch) (D : DD) (sz : Nat) {σ : St} {a0 : Nat} {w : St} (h : f_X5_clear σ a0 = some w) : Mt l yX5_clear cX5_clear 2 none ({ frames := 0, cells := 0, slots := 0, locals := 0 } : Room) D sz σ [.ref a0] (.returned none) (w) 0 0 := by
  refine Mt.of (by decide +kernel) (Nat.le_of_ble_eq_true rfl) ?_
  intro Γ X hr hnl hini hnoh
  have X : Cx Γ cX5_clear "DayBoy$Head" _ := X
  have hL : ∀ i, i < 2 → i < nLc Γ := fun i q => by rw [hnl]; exact q
  show V Γ σ 0 0 0 [(0, .ref (a0))] []
  unfold f_X5_clear at h
  obtain ⟨ho0, h⟩ := cO_some h
  refine r_iconst X dX5_clear_0 ?_
  refine r_istore_n X dX5_clear_1 rfl (hL 1 (by decide)) (lv' := [(1, iv (0)), (0, .ref (a0))]) rfl ?_
  have L2 : ∀ s : Int × St, lp (fun s => f_X5_clear_b2 (a0) s.1 s.2) s = some w → V Γ (s.2) 0 0 2 [(0, .ref (a0)), (1, iv (s.1))] [] := by
    refine lp_rule (P := fun s : Int × St => V Γ (s.2) 0 0 2 [(0, .ref (a0)), (1, iv (s.1))] []) ?_
    intro s z1 h ihb1 ihe1
    obtain ⟨v1_1, σ_1⟩ := s
    have h : f_X5_clear_b2 (a0) v1_1 σ_1 = some z1 := h
    unfold f_X5_clear_b2 at h
    show V Γ σ_1 0 0 2 [(0, .ref (a0)), (1, iv (v1_1))] []
    refine r_iload_n X 1 dX5_clear_2 rfl rfl ?_
    refine r_sipush X dX5_clear_3 (by decide) ?_
    refine r_icmp_gt (tgt := 24) X dX5_clear_6 (by decide) h (fun c1 h => ?_) (fun c1 h => ?_)
    · have h := ex_some h ihe1
      refine r_aload_n X 0 dX5_clear_24 rfl rfl ?_
      refine r_iconst X dX5_clear_25 ?_
      obtain ⟨ho2, h⟩ := cO_some h
      refine r_putI (kf := 17) X ho2.1 rfl (by decide) rfl rfl (Or.inl q247) dX5_clear_26 rfl ?_
      refine r_let h (fun σ3 eσ3 h => ?_)
      cases h
      exact r_vret X hr dX5_clear_29
    · refine r_aload_n X 0 dX5_clear_9 rfl rfl ?_
      obtain ⟨ho4, h⟩ := cO_some h
      refine r_getA (kf := 9) X ho4.1 rfl (by decide) (by decide) (Or.inl q228) dX5_clear_10 ?_
      refine r_iload_n X 1 dX5_clear_13 rfl rfl ?_
      refine r_ldc2 (z := 1000000000000) X q730 dX5_clear_14 rfl ?_
      refine r_last X ho4.1 (ho4.2 9 (by decide)) rfl rfl rfl (by decide) dX5_clear_17 h (fun h => ?_)
      refine r_let h (fun σ5 eσ5 h => ?_)
      refine r_iinc X 1 dX5_clear_18 rfl (hL 1 (by decide)) (lv' := [(1, iv ((v1_1 + 1))), (0, .ref (a0))]) rfl ?_
      refine r_goto (tgt := 2) X dX5_clear_21 (by decide) ?_
      exact V.sub [1, 0] rfl (ihb1 _ (Option.some.inj h).symm)
  exact V.sub [1, 0] rfl (L2 (0, σ) h)
theorem hy_X5_improve : yX5_improve.cls ≠ "java/lang/invoke/MethodHandle" ∧ yX5_improve.cls ≠ "java/lang/invoke/VarHandle" ∧ (parseMethodDescriptor yX5_improve.desc).map (fun d => d.parameters.length) = some 2 := by decide +kernel
set_option maxHeartbeats 4000000 in
theorem w_X5_improve (l : Launch) (D : DD) (sz : Nat) {σ : St} {a0 : Nat} {x1 : Int} {y2 : Int} {w : St} (h : f_X5_improve σ a0 x1 y2 = some w) : Mt l yX5_improve cX5_improve 4 none ({ frames := 1, cells := 0, slots := 0, locals := 17 } : Room) D sz σ [.ref a0, iv (x1), jv (y2)] (.returned none) (w) 0 0 := by
  refine Mt.of (by decide +kernel) (Nat.le_of_ble_eq_true rfl) ?_
  intro Γ X hr hnl hini hnoh
  have X : Cx Γ cX5_improve "DayBoy$Head" _ := X
  have hL : ∀ i, i < 4 → i < nLc Γ := fun i q => by rw [hnl]; exact q
  show V Γ σ 0 0 0 [(0, .ref (a0)), (1, iv (x1)), (2, jv (y2))] []
  unfold f_X5_improve at h
  obtain ⟨ho0, h⟩ := cO_some h
  refine r_iload_n X 1 dX5_improve_0 rfl rfl ?_
  obtain ⟨c1, h⟩ := ck_some h
  refine r_i2l X dX5_improve_1 c1 ?_
  refine r_lconst (y := 1) X dX5_improve_2 rfl ?_
  refine r_ldc2 (z := 9999) X q735 dX5_improve_3 rfl ?_
  obtain ⟨r3, h2, h⟩ := bd_some h
  refine r_cSN (Wd := 0) X (fun l D sz => w_X1_isIn l D sz h2) q414 q736 q104 q415 hy_X1_isIn rfl dX5_improve_6 rfl rfl (Nat.le_of_ble_eq_true rfl) ⟨Nat.le_of_ble_eq_true rfl, Nat.le_of_ble_eq_true rfl⟩ ⟨Nat.le_of_ble_eq_true rfl, Nat.le_of_ble_eq_true rfl⟩ ?_
  refine r_if_eq (tgt := 23) X dX5_improve_9 (by decide) h (fun c4 h => ?_) (fun c4 h => ?_)
  · cases h
    exact r_vret X hr dX5_improve_23
  · refine r_lload_n X 2 dX5_improve_12 rfl rfl ?_
    refine r_aload_n X 0 dX5_improve_13 rfl rfl ?_
    refine r_getA (kf := 9) X ho0.1 rfl (by decide) (by decide) (Or.inl q228) dX5_improve_14 ?_
    refine r_iload_n X 1 dX5_improve_17 rfl rfl ?_
    refine r_lald X ho0.1 (ho0.2 9 (by decide)) rfl rfl rfl (by decide) dX5_improve_18 h (fun h => ?_)
    refine r_lcmp_lt (tgt := 24) X dX5_improve_19 dX5_improve_20 (by decide) h (fun c5 h => ?_) (fun c5 h => ?_)
    · refine r_aload_n X 0 dX5_improve_24 rfl rfl ?_
      refine r_getA (kf := 9) X ho0.1 rfl (by decide) (by decide) (Or.inl q228) dX5_improve_25 ?_
      refine r_iload_n X 1 dX5_improve_28 rfl rfl ?_
      refine r_lload_n X 2 dX5_improve_29 rfl rfl ?_
      refine r_last X ho0.1 (ho0.2 9 (by decide)) rfl rfl rfl (by decide) dX5_improve_30 h (fun h => ?_)
      refine r_let h (fun σ6 eσ6 h => ?_)
      refine r_aload_n X 0 dX5_improve_31 rfl rfl ?_
      have hk7 : oc σ6 (a0) 4 := by rw [eσ6]; exact ho0
      refine r_getA (kf := 12) X hk7.1 rfl (by decide) (by decide) (Or.inl q233) dX5_improve_32 ?_
      refine r_iload_n X 1 dX5_improve_35 rfl rfl ?_
      refine r_zald X hk7.1 (hk7.2 12 (by decide)) rfl rfl rfl (by decide) dX5_improve_36 h (fun h => ?_)
      refine r_if_eq (tgt := 41) X dX5_improve_37 (by decide) h (fun c8 h => ?_) (fun c8 h => ?_)
      · refine r_aload_n X 0 dX5_improve_41 rfl rfl ?_
        refine r_getA (kf := 12) X hk7.1 rfl (by decide) (by decide) (Or.inl q233) dX5_improve_42 ?_
        refine r_iload_n X 1 dX5_improve_45 rfl rfl ?_
        refine r_iconst X dX5_improve_46 ?_
        refine r_zast X hk7.1 (hk7.2 12 (by decide)) rfl rfl rfl (by decide) dX5_improve_47 h (fun h => ?_)
        refine r_let h (fun σ9 eσ9 h => ?_)
        refine r_aload_n X 0 dX5_improve_48 rfl rfl ?_
        have hk10 : oc σ9 (a0) 4 := by rw [eσ9]; exact hk7
        refine r_getA (kf := 11) X hk10.1 rfl (by decide) (by decide) (Or.inl q232) dX5_improve_49 ?_
        refine r_aload_n X 0 dX5_improve_52 rfl rfl ?_
        refine r_getI (kf := 20) X hk10.1 rfl (by decide) rfl (Or.inl q250) dX5_improve_53 ?_
        refine r_iload_n X 1 dX5_improve_56 rfl rfl ?_
        refine r_iast X hk10.1 (hk10.2 11 (by decide)) rfl rfl rfl (by decide) dX5_improve_57 h (fun h => ?_)
        refine r_let h (fun σ11 eσ11 h => ?_)
        refine r_aload_n X 0 dX5_improve_58 rfl rfl ?_
        refine r_aload_n X 0 dX5_improve_59 rfl rfl ?_
        have hk12 : oc σ11 (a0) 4 := by rw [eσ11]; exact hk10
        refine r_getI (kf := 20) X hk12.1 rfl (by decide) rfl (Or.inl q250) dX5_improve_60 ?_
        refine r_iconst X dX5_improve_63 ?_
        refine r_iadd X dX5_improve_64 ?_
        refine r_aload_n X 0 dX5_improve_65 rfl rfl ?_
        refine r_getA (kf := 11) X hk12.1 rfl (by decide) (by decide) (Or.inl q232) dX5_improve_66 ?_
        refine r_alen X hk12.1 (hk12.2 11 (by decide)) rfl (by decide) rfl dX5_improve_69 ?_
        obtain ⟨c13, h⟩ := ck_some h
        refine r_irem X dX5_improve_70 c13 (by decide) (by decide) ?_
        refine r_putI (kf := 20) X hk12.1 rfl (by decide) rfl rfl (Or.inl q250) dX5_improve_71 rfl ?_
        refine r_let h (fun σ14 eσ14 h => ?_)
        refine r_aload_n X 0 dX5_improve_74 rfl rfl ?_
        refine r_dup X dX5_improve_75 rfl ?_
        have hk15 : oc σ14 (a0) 4 := by rw [eσ14]; exact hk12
        refine r_getI (kf := 21) X hk15.1 rfl (by decide) rfl (Or.inl q251) dX5_improve_76 ?_
        refine r_iconst X dX5_improve_79 ?_
        refine r_iadd X dX5_improve_80 ?_
        refine r_putI (kf := 21) X hk15.1 rfl (by decide) rfl rfl (Or.inl q251) dX5_improve_81 rfl ?_
        refine r_let h (fun σ16 eσ16 h => ?_)
        cases h
        exact r_vret X hr dX5_improve_84
      · cases h
        exact r_vret X hr dX5_improve_40
    · cases h
      exact r_vret X hr dX5_improve_23
theorem hy_X5_spread : yX5_spread.cls ≠ "java/lang/invoke/MethodHandle" ∧ yX5_spread.cls ≠ "java/lang/invoke/VarHandle" ∧ (parseMethodDescriptor yX5_spread.desc).map (fun d => d.parameters.length) = some 0 := by decide +kernel
set_option maxHeartbeats 4000000 in
theorem w_X5_spread (l : Launch) (D : DD) (sz : Nat) {σ : St} {a0 : Nat} {w : St} (h : f_X5_spread σ a0 = some w) : Mt l yX5_spread cX5_spread 3 none ({ frames := 2, cells := 0, slots := 0, locals := 32 } : Room) D sz σ [.ref a0] (.returned none) (w) 0 0 := by
  refine Mt.of (by decide +kernel) (Nat.le_of_ble_eq_true rfl) ?_
  intro Γ X hr hnl hini hnoh
  have X : Cx Γ cX5_spread "DayBoy$Head" _ := X
  have hL : ∀ i, i < 3 → i < nLc Γ := fun i q => by rw [hnl]; exact q
  show V Γ σ 0 0 0 [(0, .ref (a0))] []
  unfold f_X5_spread at h
  obtain ⟨ho0, h⟩ := cO_some h
  have L0 : ∀ s : St, lp (fun s => f_X5_spread_b0 (a0) s) s = some w → V Γ (s) 0 0 0 [(0, .ref (a0))] [] := by
    refine lp_rule (P := fun s : St => V Γ (s) 0 0 0 [(0, .ref (a0))] []) ?_
    intro s z1 h ihb1 ihe1
    obtain ⟨σ_1, es⟩ : ∃ q, q = s := ⟨s, rfl⟩
    subst es
    have h : f_X5_spread_b0 (a0) σ_1 = some z1 := h
    unfold f_X5_spread_b0 at h
    show V Γ σ_1 0 0 0 [(0, .ref (a0))] []
    refine r_aload_n X 0 dX5_spread_0 rfl rfl ?_
    obtain ⟨ho1, h⟩ := cO_some h
    refine r_getI (kf := 21) X ho1.1 rfl (by decide) rfl (Or.inl q251) dX5_spread_1 ?_
    refine r_if_le (tgt := 133) X dX5_spread_4 (by decide) h (fun c2 h => ?_) (fun c2 h => ?_)
    · refine r_aload_n X 0 dX5_spread_7 rfl rfl ?_
      refine r_getA (kf := 11) X ho1.1 rfl (by decide) (by decide) (Or.inl q232) dX5_spread_8 ?_
      refine r_aload_n X 0 dX5_spread_11 rfl rfl ?_
      refine r_getI (kf := 19) X ho1.1 rfl (by decide) rfl (Or.inl q249) dX5_spread_12 ?_
      refine r_iald X ho1.1 (ho1.2 11 (by decide)) rfl rfl rfl (by decide) dX5_spread_15 h (fun h => ?_)
      refine r_istore_n X dX5_spread_16 rfl (hL 1 (by decide)) (lv' := [(1, iv ((gI (σ_1) (a0) 11 ((gI (σ_1) (a0) 19 0))))), (0, .ref (a0))]) rfl ?_
      refine r_aload_n X 1 dX5_spread_17 rfl rfl ?_
      refine r_aload_n X 1 dX5_spread_18 rfl rfl ?_
      refine r_getI (kf := 19) X ho1.1 rfl (by decide) rfl (Or.inl q249) dX5_spread_19 ?_
      refine r_iconst X dX5_spread_22 ?_
      refine r_iadd X dX5_spread_23 ?_
      refine r_aload_n X 1 dX5_spread_24 rfl rfl ?_
      refine r_getA (kf := 11) X ho1.1 rfl (by decide) (by decide) (Or.inl q232) dX5_spread_25 ?_
      refine r_alen X ho1.1 (ho1.2 11 (by decide)) rfl (by decide) rfl dX5_spread_28 ?_
      obtain ⟨c3, h⟩ := ck_some h
      refine r_irem X dX5_spread_29 c3 (by decide) (by decide) ?_
      refine r_putI (kf := 19) X ho1.1 rfl (by decide) rfl rfl (Or.inl q249) dX5_spread_30 rfl ?_
      refine r_let h (fun σ4 eσ4 h => ?_)
      refine r_aload_n X 1 dX5_spread_33 rfl rfl ?_
      refine r_dup X dX5_spread_34 rfl ?_
      have hk5 : oc σ4 (a0) 4 := by rw [eσ4]; exact ho1
      refine r_getI (kf := 21) X hk5.1 rfl (by decide) rfl (Or.inl q251) dX5_spread_35 ?_
      refine r_iconst X dX5_spread_38 ?_
      refine r_isub X dX5_spread_39 ?_
      refine r_putI (kf := 21) X hk5.1 rfl (by decide) rfl rfl (Or.inl q251) dX5_spread_40 rfl ?_
      refine r_let h (fun σ6 eσ6 h => ?_)
      refine r_aload_n X 1 dX5_spread_43 rfl rfl ?_
      have hk7 : oc σ6 (a0) 4 := by rw [eσ6]; exact hk5
      refine r_getA (kf := 12) X hk7.1 rfl (by decide) (by decide) (Or.inl q233) dX5_spread_44 ?_
      refine r_iload_n X 0 dX5_spread_47 rfl rfl ?_
      refine r_iconst X dX5_spread_48 ?_
      refine r_zast X hk7.1 (hk7.2 12 (by decide)) rfl rfl rfl (by decide) dX5_spread_49 h (fun h => ?_)
      refine r_let h (fun σ8 eσ8 h => ?_)
      refine r_iconst X dX5_spread_50 ?_
      refine r_istore_n X dX5_spread_51 rfl (hL 2 (by decide)) (lv' := [(2, iv (0)), (1, iv ((gI (σ_1) (a0) 11 ((gI (σ_1) (a0) 19 0))))), (0, .ref (a0))]) rfl ?_
      have L52 : ∀ s : Int × St, lp (fun s => f_X5_spread_b52 (a0) ((gI (σ_1) (a0) 11 ((gI (σ_1) (a0) 19 0)))) s.1 s.2) s = some z1 → V Γ (s.2) 0 0 52 [(0, .ref (a0)), (1, iv ((gI (σ_1) (a0) 11 ((gI (σ_1) (a0) 19 0))))), (2, iv (s.1))] [] := by
        refine lp_rule (P := fun s : Int × St => V Γ (s.2) 0 0 52 [(0, .ref (a0)), (1, iv ((gI (σ_1) (a0) 11 ((gI (σ_1) (a0) 19 0))))), (2, iv (s.1))] []) ?_
        intro s z2 h ihb2 ihe2
        obtain ⟨v2_2, σ_2⟩ := s
        have h : f_X5_spread_b52 (a0) ((gI (σ_1) (a0) 11 ((gI (σ_1) (a0) 19 0)))) v2_2 σ_2 = some z2 := h
        unfold f_X5_spread_b52 at h
        show V Γ σ_2 0 0 52 [(0, .ref (a0)), (1, iv ((gI (σ_1) (a0) 11 ((gI (σ_1) (a0) 19 0))))), (2, iv (v2_2))] []
        refine r_iload_n X 2 dX5_spread_52 rfl rfl ?_
        refine r_aload_n X 0 dX5_spread_53 rfl rfl ?_
        obtain ⟨ho9, h⟩ := cO_some h
        refine r_getI (kf := 14) X ho9.1 rfl (by decide) rfl (Or.inl q238) dX5_spread_54 ?_
        refine r_icmp_ge (tgt := 130) X dX5_spread_57 (by decide) h (fun c10 h => ?_) (fun c10 h => ?_)
        · refine r_aload_n X 0 dX5_spread_60 rfl rfl ?_
          refine r_iload_n X 1 dX5_spread_61 rfl rfl ?_
          refine r_aload_n X 0 dX5_spread_62 rfl rfl ?_
          refine r_getA (kf := 2) X ho9.1 rfl (by decide) (by decide) (Or.inl q207) dX5_spread_63 ?_
          refine r_iload_n X 2 dX5_spread_66 rfl rfl ?_
          refine r_iald X ho9.1 (ho9.2 2 (by decide)) rfl rfl rfl (by decide) dX5_spread_67 h (fun h => ?_)
          refine r_isub X dX5_spread_68 ?_
          refine r_aload_n X 0 dX5_spread_69 rfl rfl ?_
          refine r_getA (kf := 9) X ho9.1 rfl (by decide) (by decide) (Or.inl q228) dX5_spread_70 ?_
          refine r_iload_n X 1 dX5_spread_73 rfl rfl ?_
          refine r_lald X ho9.1 (ho9.2 9 (by decide)) rfl rfl rfl (by decide) dX5_spread_74 h (fun h => ?_)
          refine r_ldc2 (z := 20000) X q741 dX5_spread_75 rfl ?_
          refine r_aload_n X 0 dX5_spread_78 rfl rfl ?_
          refine r_getA (kf := 3) X ho9.1 rfl (by decide) (by decide) (Or.inl q211) dX5_spread_79 ?_
          refine r_iload_n X 2 dX5_spread_82 rfl rfl ?_
          refine r_iald X ho9.1 (ho9.2 3 (by decide)) rfl rfl rfl (by decide) dX5_spread_83 h (fun h => ?_)
          obtain ⟨c11, h⟩ := ck_some h
          refine r_i2l X dX5_spread_84 c11 ?_
          refine r_lmul X dX5_spread_85 ?_
          refine r_ladd X dX5_spread_86 ?_
          refine r_lconst (y := 1) X dX5_spread_87 rfl ?_
          refine r_ladd X dX5_spread_88 ?_
          obtain ⟨σ13, h12, h⟩ := bd_some h
          refine r_cV (Wd := 0) X (fun l D sz => w_X5_improve l D sz h12) ho9.1 rfl q733 qs20 q731 q108 q734 hy_X5_improve rfl dX5_spread_89 rfl rfl (Nat.le_of_ble_eq_true rfl) ⟨Nat.le_of_ble_eq_true rfl, Nat.le_of_ble_eq_true rfl⟩ ⟨Nat.le_of_ble_eq_true rfl, Nat.le_of_ble_eq_true rfl⟩ ?_
          refine r_aload_n X 0 dX5_spread_92 rfl rfl ?_
          refine r_iload_n X 1 dX5_spread_93 rfl rfl ?_
          refine r_aload_n X 0 dX5_spread_94 rfl rfl ?_
          obtain ⟨ho14, h⟩ := cO_some h
          refine r_getA (kf := 2) X ho14.1 rfl (by decide) (by decide) (Or.inl q207) dX5_spread_95 ?_
          refine r_iload_n X 2 dX5_spread_98 rfl rfl ?_
          refine r_iald X ho14.1 (ho14.2 2 (by decide)) rfl rfl rfl (by decide) dX5_spread_99 h (fun h => ?_)
          refine r_iadd X dX5_spread_100 ?_
          refine r_aload_n X 0 dX5_spread_101 rfl rfl ?_
          refine r_getA (kf := 9) X ho14.1 rfl (by decide) (by decide) (Or.inl q228) dX5_spread_102 ?_
          refine r_iload_n X 1 dX5_spread_105 rfl rfl ?_
          refine r_lald X ho14.1 (ho14.2 9 (by decide)) rfl rfl rfl (by decide) dX5_spread_106 h (fun h => ?_)
          refine r_ldc2 (z := 20000) X q741 dX5_spread_107 rfl ?_
          refine r_aload_n X 0 dX5_spread_110 rfl rfl ?_
          refine r_getA (kf := 3) X ho14.1 rfl (by decide) (by decide) (Or.inl q211) dX5_spread_111 ?_
          refine r_iload_n X 2 dX5_spread_114 rfl rfl ?_
          refine r_iald X ho14.1 (ho14.2 3 (by decide)) rfl rfl rfl (by decide) dX5_spread_115 h (fun h => ?_)
          obtain ⟨c15, h⟩ := ck_some h
          refine r_i2l X dX5_spread_116 c15 ?_
          refine r_lmul X dX5_spread_117 ?_
          refine r_ladd X dX5_spread_118 ?_
          refine r_lconst (y := 1) X dX5_spread_119 rfl ?_
          refine r_ladd X dX5_spread_120 ?_
          obtain ⟨σ17, h16, h⟩ := bd_some h
          refine r_cV (Wd := 0) X (fun l D sz => w_X5_improve l D sz h16) ho14.1 rfl q733 qs20 q731 q108 q734 hy_X5_improve rfl dX5_spread_121 rfl rfl (Nat.le_of_ble_eq_true rfl) ⟨Nat.le_of_ble_eq_true rfl, Nat.le_of_ble_eq_true rfl⟩ ⟨Nat.le_of_ble_eq_true rfl, Nat.le_of_ble_eq_true rfl⟩ ?_
          refine r_iinc X 2 dX5_spread_124 rfl (hL 2 (by decide)) (lv' := [(2, iv ((v2_2 + 1))), (0, .ref (a0)), (1, iv ((gI (σ_1) (a0) 11 ((gI (σ_1) (a0) 19 0)))))]) rfl ?_
          refine r_goto (tgt := 52) X dX5_spread_127 (by decide) ?_
          exact V.sub [1, 2, 0] rfl (ihb2 _ (Option.some.inj h).symm)
        · have h := ex_some h ihe2
          refine r_goto (tgt := 0) X dX5_spread_130 (by decide) ?_
          exact V.sub [0] rfl (ihb1 _ (Option.some.inj h).symm)
      exact V.sub [2, 1, 0] rfl (L52 (0, σ8) h)
    · have h := ex_some h ihe1
      cases h
      exact r_vret X hr dX5_spread_133
  exact V.sub [0] rfl (L0 (σ) h)
theorem hy_X5_learn : yX5_learn.cls ≠ "java/lang/invoke/MethodHandle" ∧ yX5_learn.cls ≠ "java/lang/invoke/VarHandle" ∧ (parseMethodDescriptor yX5_learn.desc).map (fun d => d.parameters.length) = some 0 := by decide +kernel
set_option maxHeartbeats 4000000 in
theorem w_X5_learn (l : Launch) (D : DD) (sz : Nat) {σ : St} {a0 : Nat} {w : St} (h : f_X5_learn σ a0 = some w) : Mt l yX5_learn cX5_learn 6 none ({ frames := 3, cells := 0, slots := 0, locals := 46 } : Room) D sz σ [.ref a0] (.returned none) (w) 0 0 := by
  refine Mt.of (by decide +kernel) (Nat.le_of_ble_eq_true rfl) ?_
  intro Γ X hr hnl hini hnoh
  have X : Cx Γ cX5_learn "DayBoy$Head" _ := X
  have hL : ∀ i, i < 6 → i < nLc Γ := fun i q => by rw [hnl]; exact q
  show V Γ σ 0 0 0 [(0, .ref (a0))] []
  unfold f_X5_learn at h
  obtain ⟨ho0, h⟩ := cO_some h
  refine r_aload_n X 0 dX5_learn_0 rfl rfl ?_
  obtain ⟨σ2, h1, h⟩ := bd_some h
  refine r_cV (Wd := 0) X (fun l D sz => w_X5_clear l D sz h1) ho0.1 rfl q728 qs19 q726 q108 q729 hy_X5_clear rfl dX5_learn_1 rfl rfl (Nat.le_of_ble_eq_true rfl) ⟨Nat.le_of_ble_eq_true rfl, Nat.le_of_ble_eq_true rfl⟩ ⟨Nat.le_of_ble_eq_true rfl, Nat.le_of_ble_eq_true rfl⟩ ?_
  refine r_iconst X dX5_learn_4 ?_
  refine r_istore_n X dX5_learn_5 rfl (hL 1 (by decide)) (lv' := [(1, iv (0)), (0, .ref (a0))]) rfl ?_
  have L6 : ∀ s : Int × St, lp (fun s => f_X5_learn_b6 (a0) s.1 s.2) s = some w → V Γ (s.2) 0 0 6 [(0, .ref (a0)), (1, iv (s.1))] [] := by
    refine lp_rule (P := fun s : Int × St => V Γ (s.2) 0 0 6 [(0, .ref (a0)), (1, iv (s.1))] []) ?_
    intro s z1 h ihb1 ihe1
    obtain ⟨v1_1, σ_1⟩ := s
    have h : f_X5_learn_b6 (a0) v1_1 σ_1 = some z1 := h
    unfold f_X5_learn_b6 at h
    show V Γ σ_1 0 0 6 [(0, .ref (a0)), (1, iv (v1_1))] []
    refine r_iload_n X 1 dX5_learn_6 rfl rfl ?_
    refine r_aload_n X 0 dX5_learn_7 rfl rfl ?_
    obtain ⟨ho3, h⟩ := cO_some h
    refine r_getI (kf := 13) X ho3.1 rfl (by decide) rfl (Or.inl q235) dX5_learn_8 ?_
    refine r_icmp_ge (tgt := 49) X dX5_learn_11 (by decide) h (fun c4 h => ?_) (fun c4 h => ?_)
    · refine r_aload_n X 0 dX5_learn_14 rfl rfl ?_
      refine r_getA (kf := 0) X ho3.1 rfl (by decide) (by decide) (Or.inl q203) dX5_learn_15 ?_
      refine r_iload_n X 1 dX5_learn_18 rfl rfl ?_
      refine r_iald X ho3.1 (ho3.2 0 (by decide)) rfl rfl rfl (by decide) dX5_learn_19 h (fun h => ?_)
      refine r_istore_n X dX5_learn_20 rfl (hL 2 (by decide)) (lv' := [(2, iv ((gI (σ_1) (a0) 0 (v1_1)))), (0, .ref (a0)), (1, iv (v1_1))]) rfl ?_
      have L21 : ∀ s : Int × St, lp (fun s => f_X5_learn_b21 (a0) (v1_1) s.1 s.2) s = some z1 → V Γ (s.2) 0 0 21 [(0, .ref (a0)), (1, iv (v1_1)), (2, iv (s.1))] [] := by
        refine lp_rule (P := fun s : Int × St => V Γ (s.2) 0 0 21 [(0, .ref (a0)), (1, iv (v1_1)), (2, iv (s.1))] []) ?_
        intro s z2 h ihb2 ihe2
        obtain ⟨v2_2, σ_2⟩ := s
        have h : f_X5_learn_b21 (a0) (v1_1) v2_2 σ_2 = some z2 := h
        unfold f_X5_learn_b21 at h
        show V Γ σ_2 0 0 21 [(0, .ref (a0)), (1, iv (v1_1)), (2, iv (v2_2))] []
        refine r_iload_n X 2 dX5_learn_21 rfl rfl ?_
        refine r_aload_n X 0 dX5_learn_22 rfl rfl ?_
        obtain ⟨ho5, h⟩ := cO_some h
        refine r_getA (kf := 1) X ho5.1 rfl (by decide) (by decide) (Or.inl q205) dX5_learn_23 ?_
        refine r_iload_n X 1 dX5_learn_26 rfl rfl ?_
        refine r_iald X ho5.1 (ho5.2 1 (by decide)) rfl rfl rfl (by decide) dX5_learn_27 h (fun h => ?_)
        refine r_icmp_gt (tgt := 43) X dX5_learn_28 (by decide) h (fun c6 h => ?_) (fun c6 h => ?_)
        · have h := ex_some h ihe2
          refine r_iinc X 1 dX5_learn_43 rfl (hL 1 (by decide)) (lv' := [(1, iv ((v1_1 + 1))), (0, .ref (a0)), (2, iv (v2_2))]) rfl ?_
          refine r_goto (tgt := 6) X dX5_learn_46 (by decide) ?_
          exact V.sub [1, 0] rfl (ihb1 _ (Option.some.inj h).symm)
        · refine r_aload_n X 0 dX5_learn_31 rfl rfl ?_
          refine r_iload_n X 2 dX5_learn_32 rfl rfl ?_
          refine r_lconst (y := 0) X dX5_learn_33 rfl ?_
          obtain ⟨σ8, h7, h⟩ := bd_some h
          refine r_cV (Wd := 0) X (fun l D sz => w_X5_improve l D sz h7) ho5.1 rfl q733 qs20 q731 q108 q734 hy_X5_improve rfl dX5_learn_34 rfl rfl (Nat.le_of_ble_eq_true rfl) ⟨Nat.le_of_ble_eq_true rfl, Nat.le_of_ble_eq_true rfl⟩ ⟨Nat.le_of_ble_eq_true rfl, Nat.le_of_ble_eq_true rfl⟩ ?_
          refine r_iinc X 2 dX5_learn_37 rfl (hL 2 (by decide)) (lv' := [(2, iv ((v2_2 + 1))), (0, .ref (a0)), (1, iv (v1_1))]) rfl ?_
          refine r_goto (tgt := 21) X dX5_learn_40 (by decide) ?_
          exact V.sub [1, 2, 0] rfl (ihb2 _ (Option.some.inj h).symm)
      exact V.sub [1, 2, 0] rfl (L21 ((gI (σ_1) (a0) 0 (v1_1)), σ_1) h)
    · have h := ex_some h ihe1
      refine r_aload_n X 0 dX5_learn_49 rfl rfl ?_
      obtain ⟨σ10, h9, h⟩ := bd_some h
      refine r_cV (Wd := 0) X (fun l D sz => w_X5_spread l D sz h9) ho3.1 rfl q739 qs21 q737 q108 q740 hy_X5_spread rfl dX5_learn_50 rfl rfl (Nat.le_of_ble_eq_true rfl) ⟨Nat.le_of_ble_eq_true rfl, Nat.le_of_ble_eq_true rfl⟩ ⟨Nat.le_of_ble_eq_true rfl, Nat.le_of_ble_eq_true rfl⟩ ?_
      refine r_iconst X dX5_learn_53 ?_
      refine r_istore_n X dX5_learn_54 rfl (hL 1 (by decide)) (lv' := [(1, iv (0)), (0, .ref (a0))]) rfl ?_
      refine r_iconst X dX5_learn_55 ?_
      refine r_istore_n X dX5_learn_56 rfl (hL 2 (by decide)) (lv' := [(2, iv (1)), (1, iv (0)), (0, .ref (a0))]) rfl ?_
      have L57 : ∀ s : Int × Int, lp (fun s => f_X5_learn_b57 (σ10) (a0) s.1 s.2) s = some w → V Γ (σ10) 0 0 57 [(0, .ref (a0)), (1, iv (s.1)), (2, iv (s.2))] [] := by
        refine lp_rule (P := fun s : Int × Int => V Γ (σ10) 0 0 57 [(0, .ref (a0)), (1, iv (s.1)), (2, iv (s.2))] []) ?_
        intro s z1 h ihb1 ihe1
        obtain ⟨v1_1, v2_1⟩ := s
        have h : f_X5_learn_b57 (σ10) (a0) v1_1 v2_1 = some z1 := h
        unfold f_X5_learn_b57 at h
        show V Γ σ10 0 0 57 [(0, .ref (a0)), (1, iv (v1_1)), (2, iv (v2_1))] []
        refine r_iload_n X 2 dX5_learn_57 rfl rfl ?_
        refine r_bipush X dX5_learn_58 (by decide) ?_
        refine r_icmp_ge (tgt := 88) X dX5_learn_60 (by decide) h (fun c11 h => ?_) (fun c11 h => ?_)
        · refine r_iload_n X 1 dX5_learn_63 rfl rfl ?_
          refine r_if_ne (tgt := 76) X dX5_learn_64 (by decide) h (fun c12 h => ?_) (fun c12 h => ?_)
          · refine r_aload_n X 0 dX5_learn_67 rfl rfl ?_
            obtain ⟨ho13, h⟩ := cO_some h
            refine r_getA (kf := 8) X ho13.1 rfl (by decide) (by decide) (Or.inl q225) dX5_learn_68 ?_
            refine r_iload_n X 2 dX5_learn_71 rfl rfl ?_
            refine r_zald X ho13.1 (ho13.2 8 (by decide)) rfl rfl rfl (by decide) dX5_learn_72 h (fun h => ?_)
            refine r_if_eq (tgt := 80) X dX5_learn_73 (by decide) h (fun c14 h => ?_) (fun c14 h => ?_)
            · refine r_iconst X dX5_learn_80 ?_
              refine r_istore_n X dX5_learn_81 rfl (hL 1 (by decide)) (lv' := [(1, iv (0)), (0, .ref (a0)), (2, iv (v2_1))]) rfl ?_
              refine r_iinc X 2 dX5_learn_82 rfl (hL 2 (by decide)) (lv' := [(2, iv ((v2_1 + 1))), (1, iv (0)), (0, .ref (a0))]) rfl ?_
              refine r_goto (tgt := 57) X dX5_learn_85 (by decide) ?_
              exact V.sub [2, 1, 0] rfl (ihb1 _ (Option.some.inj h).symm)
            · refine r_iconst X dX5_learn_76 ?_
              refine r_goto (tgt := 81) X dX5_learn_77 (by decide) ?_
              refine r_istore_n X dX5_learn_81 rfl (hL 1 (by decide)) (lv' := [(1, iv (1)), (0, .ref (a0)), (2, iv (v2_1))]) rfl ?_
              refine r_iinc X 2 dX5_learn_82 rfl (hL 2 (by decide)) (lv' := [(2, iv ((v2_1 + 1))), (1, iv (1)), (0, .ref (a0))]) rfl ?_
              refine r_goto (tgt := 57) X dX5_learn_85 (by decide) ?_
              exact V.sub [2, 1, 0] rfl (ihb1 _ (Option.some.inj h).symm)
          · refine r_iconst X dX5_learn_76 ?_
            refine r_goto (tgt := 81) X dX5_learn_77 (by decide) ?_
            refine r_istore_n X dX5_learn_81 rfl (hL 1 (by decide)) (lv' := [(1, iv (1)), (0, .ref (a0)), (2, iv (v2_1))]) rfl ?_
            refine r_iinc X 2 dX5_learn_82 rfl (hL 2 (by decide)) (lv' := [(2, iv ((v2_1 + 1))), (1, iv (1)), (0, .ref (a0))]) rfl ?_
            refine r_goto (tgt := 57) X dX5_learn_85 (by decide) ?_
            exact V.sub [2, 1, 0] rfl (ihb1 _ (Option.some.inj h).symm)
        · have h := ex_some h ihe1
          refine r_iconst X dX5_learn_88 ?_
          refine r_istore_n X dX5_learn_89 rfl (hL 2 (by decide)) (lv' := [(2, iv (1)), (0, .ref (a0)), (1, iv (v1_1))]) rfl ?_
          have L90 : ∀ s : Int × St, lp (fun s => f_X5_learn_b90 (a0) (v1_1) s.1 s.2) s = some w → V Γ (s.2) 0 0 90 [(0, .ref (a0)), (1, iv (v1_1)), (2, iv (s.1))] [] := by
            refine lp_rule (P := fun s : Int × St => V Γ (s.2) 0 0 90 [(0, .ref (a0)), (1, iv (v1_1)), (2, iv (s.1))] []) ?_
            intro s z1 h ihb1 ihe1
            obtain ⟨v2_1, σ_1⟩ := s
            have h : f_X5_learn_b90 (a0) (v1_1) v2_1 σ_1 = some z1 := h
            unfold f_X5_learn_b90 at h
            show V Γ σ_1 0 0 90 [(0, .ref (a0)), (1, iv (v1_1)), (2, iv (v2_1))] []
            have J126 : ∀ (v2_j126 : Int) (t0_j126 : Int) (t1_j126 : Int) (σ_j126 : St), f_X5_learn_j126 (a0) (v1_1) v2_j126 t0_j126 t1_j126 σ_j126 = some z1 → V Γ σ_j126 0 0 126 [(0, .ref (a0)), (1, iv (v1_1)), (2, iv (v2_j126))] [jv (t0_j126), iv (t1_j126), va_rf (aR (σ_j126) (a0) 10)] := by
              intro v2_j126 t0_j126 t1_j126 σ_j126 h
              unfold f_X5_learn_j126 at h
              obtain ⟨ho15, h⟩ := cO_some h
              refine r_last X ho15.1 (ho15.2 10 (by decide)) rfl rfl rfl (by decide) dX5_learn_126 h (fun h => ?_)
              refine r_let h (fun σ16 eσ16 h => ?_)
              refine r_iinc X 2 dX5_learn_127 rfl (hL 2 (by decide)) (lv' := [(2, iv ((v2_j126 + 1))), (0, .ref (a0)), (1, iv (v1_1))]) rfl ?_
              refine r_goto (tgt := 90) X dX5_learn_130 (by decide) ?_
              exact V.sub [1, 2, 0] rfl (ihb1 _ (Option.some.inj h).symm)
            have J123 : ∀ (v2_j123 : Int) (t0_j123 : Int) (σ_j123 : St), f_X5_learn_j123 (a0) (v1_1) v2_j123 t0_j123 σ_j123 = some z1 → V Γ σ_j123 0 0 123 [(0, .ref (a0)), (1, iv (v1_1)), (2, iv (v2_j123))] [iv (t0_j123), va_rf (aR (σ_j123) (a0) 10)] := by
              intro v2_j123 t0_j123 σ_j123 h
              unfold f_X5_learn_j123 at h
              refine r_ldc2 (z := 1000000000000) X q730 dX5_learn_123 rfl ?_
              exact V.sub [0, 1, 2] rfl (J126 (v2_j123) (1000000000000) (t0_j123) (σ_j123) h)
            have J119 : ∀ (v2_j119 : Int) (t0_j119 : Int) (σ_j119 : St), f_X5_learn_j119 (a0) (v1_1) v2_j119 t0_j119 σ_j119 = some z1 → V Γ σ_j119 0 0 119 [(0, .ref (a0)), (1, iv (v1_1)), (2, iv (v2_j119))] [iv (t0_j119), va_rf (aR (σ_j119) (a0) 10)] := by
              intro v2_j119 t0_j119 σ_j119 h
              unfold f_X5_learn_j119 at h
              refine r_lconst (y := 0) X dX5_learn_119 rfl ?_
              refine r_goto (tgt := 126) X dX5_learn_120 (by decide) ?_
              exact V.sub [0, 1, 2] rfl (J126 (v2_j119) (0) (t0_j119) (σ_j119) h)
            refine r_iload_n X 2 dX5_learn_90 rfl rfl ?_
            refine r_bipush X dX5_learn_91 (by decide) ?_
            refine r_icmp_ge (tgt := 133) X dX5_learn_93 (by decide) h (fun c17 h => ?_) (fun c17 h => ?_)
            · refine r_aload_n X 0 dX5_learn_96 rfl rfl ?_
              obtain ⟨ho18, h⟩ := cO_some h
              refine r_getA (kf := 10) X ho18.1 rfl (by decide) (by decide) (Or.inl q230) dX5_learn_97 ?_
              refine r_iload_n X 2 dX5_learn_100 rfl rfl ?_
              refine r_aload_n X 0 dX5_learn_101 rfl rfl ?_
              refine r_getA (kf := 8) X ho18.1 rfl (by decide) (by decide) (Or.inl q225) dX5_learn_102 ?_
              refine r_iload_n X 2 dX5_learn_105 rfl rfl ?_
              refine r_zald X ho18.1 (ho18.2 8 (by decide)) rfl rfl rfl (by decide) dX5_learn_106 h (fun h => ?_)
              refine r_if_ne (tgt := 119) X dX5_learn_107 (by decide) h (fun c19 h => ?_) (fun c19 h => ?_)
              · refine r_iload_n X 1 dX5_learn_110 rfl rfl ?_
                refine r_if_ne (tgt := 123) X dX5_learn_111 (by decide) h (fun c20 h => ?_) (fun c20 h => ?_)
                · refine r_iload_n X 2 dX5_learn_114 rfl rfl ?_
                  refine r_iconst X dX5_learn_115 ?_
                  refine r_icmp_ne (tgt := 123) X dX5_learn_116 (by decide) h (fun c21 h => ?_) (fun c21 h => ?_)
                  · exact V.sub [0, 1, 2] rfl (J119 (v2_1) (v2_1) (σ_1) h)
                  · exact V.sub [0, 1, 2] rfl (J123 (v2_1) (v2_1) (σ_1) h)
                · exact V.sub [0, 1, 2] rfl (J123 (v2_1) (v2_1) (σ_1) h)
              · exact V.sub [0, 1, 2] rfl (J119 (v2_1) (v2_1) (σ_1) h)
            · have h := ex_some h ihe1
              refine r_iconst X dX5_learn_133 ?_
              refine r_istore_n X dX5_learn_134 rfl (hL 2 (by decide)) (lv' := [(2, iv (0)), (0, .ref (a0)), (1, iv (v1_1))]) rfl ?_
              have L135 : ∀ s : Int × St, lp (fun s => f_X5_learn_b135 (a0) s.1 s.2) s = some w → V Γ (s.2) 0 0 135 [(0, .ref (a0)), (2, iv (s.1))] [] := by
                refine lp_rule (P := fun s : Int × St => V Γ (s.2) 0 0 135 [(0, .ref (a0)), (2, iv (s.1))] []) ?_
                intro s z1 h ihb1 ihe1
                obtain ⟨v2_1, σ_1⟩ := s
                have h : f_X5_learn_b135 (a0) v2_1 σ_1 = some z1 := h
                unfold f_X5_learn_b135 at h
                show V Γ σ_1 0 0 135 [(0, .ref (a0)), (2, iv (v2_1))] []
                refine r_iload_n X 1 dX5_learn_135 rfl rfl ?_
                refine r_bipush X dX5_learn_136 (by decide) ?_
                refine r_icmp_ge (tgt := 256) X dX5_learn_138 (by decide) h (fun c22 h => ?_) (fun c22 h => ?_)
                · refine r_iconst X dX5_learn_141 ?_
                  refine r_istore_n X dX5_learn_142 rfl (hL 3 (by decide)) (lv' := [(3, iv (0)), (0, .ref (a0)), (2, iv (v2_1))]) rfl ?_
                  have L143 : ∀ s : Int × St, lp (fun s => f_X5_learn_b143 (a0) (v2_1) s.1 s.2) s = some z1 → V Γ (s.2) 0 0 143 [(0, .ref (a0)), (2, iv (v2_1)), (3, iv (s.1))] [] := by
                    refine lp_rule (P := fun s : Int × St => V Γ (s.2) 0 0 143 [(0, .ref (a0)), (2, iv (v2_1)), (3, iv (s.1))] []) ?_
                    intro s z2 h ihb2 ihe2
                    obtain ⟨v3_2, σ_2⟩ := s
                    have h : f_X5_learn_b143 (a0) (v2_1) v3_2 σ_2 = some z2 := h
                    unfold f_X5_learn_b143 at h
                    show V Γ σ_2 0 0 143 [(0, .ref (a0)), (2, iv (v2_1)), (3, iv (v3_2))] []
                    refine r_iload_n X 2 dX5_learn_143 rfl rfl ?_
                    refine r_aload_n X 0 dX5_learn_144 rfl rfl ?_
                    obtain ⟨ho23, h⟩ := cO_some h
                    refine r_getI (kf := 15) X ho23.1 rfl (by decide) rfl (Or.inl q242) dX5_learn_145 ?_
                    refine r_icmp_ge (tgt := 250) X dX5_learn_148 (by decide) h (fun c24 h => ?_) (fun c24 h => ?_)
                    · refine r_ldc2 (z := 20000) X q741 dX5_learn_151 rfl ?_
                      refine r_aload_n X 0 dX5_learn_154 rfl rfl ?_
                      refine r_getA (kf := 6) X ho23.1 rfl (by decide) (by decide) (Or.inl q220) dX5_learn_155 ?_
                      refine r_iload_n X 2 dX5_learn_158 rfl rfl ?_
                      refine r_iald X ho23.1 (ho23.2 6 (by decide)) rfl rfl rfl (by decide) dX5_learn_159 h (fun h => ?_)
                      obtain ⟨c25, h⟩ := ck_some h
                      refine r_i2l X dX5_learn_160 c25 ?_
                      refine r_lmul X dX5_learn_161 ?_
                      refine r_lconst (y := 1) X dX5_learn_162 rfl ?_
                      refine r_ladd X dX5_learn_163 ?_
                      refine r_lstore X dX5_learn_164 (hL 5 (by decide)) (lv' := [(4, jv (((20000 * (gI (σ_2) (a0) 6 (v3_2))) + 1))), (0, .ref (a0)), (2, iv (v2_1)), (3, iv (v3_2))]) rfl ?_
                      refine r_aload_n X 1 dX5_learn_166 rfl rfl ?_
                      refine r_getA (kf := 10) X ho23.1 rfl (by decide) (by decide) (Or.inl q230) dX5_learn_167 ?_
                      refine r_aload_n X 1 dX5_learn_170 rfl rfl ?_
                      refine r_getA (kf := 4) X ho23.1 rfl (by decide) (by decide) (Or.inl q214) dX5_learn_171 ?_
                      refine r_iload_n X 3 dX5_learn_174 rfl rfl ?_
                      refine r_iald X ho23.1 (ho23.2 4 (by decide)) rfl rfl rfl (by decide) dX5_learn_175 h (fun h => ?_)
                      refine r_aload_n X 1 dX5_learn_176 rfl rfl ?_
                      refine r_getA (kf := 10) X ho23.1 rfl (by decide) (by decide) (Or.inl q230) dX5_learn_177 ?_
                      refine r_aload_n X 1 dX5_learn_180 rfl rfl ?_
                      refine r_getA (kf := 4) X ho23.1 rfl (by decide) (by decide) (Or.inl q214) dX5_learn_181 ?_
                      refine r_iload_n X 3 dX5_learn_184 rfl rfl ?_
                      refine r_iald X ho23.1 (ho23.2 4 (by decide)) rfl rfl rfl (by decide) dX5_learn_185 h (fun h => ?_)
                      refine r_lald X ho23.1 (ho23.2 10 (by decide)) rfl rfl rfl (by decide) dX5_learn_186 h (fun h => ?_)
                      refine r_aload_n X 1 dX5_learn_187 rfl rfl ?_
                      refine r_getA (kf := 10) X ho23.1 rfl (by decide) (by decide) (Or.inl q230) dX5_learn_188 ?_
                      refine r_aload_n X 1 dX5_learn_191 rfl rfl ?_
                      refine r_getA (kf := 5) X ho23.1 rfl (by decide) (by decide) (Or.inl q217) dX5_learn_192 ?_
                      refine r_iload_n X 3 dX5_learn_195 rfl rfl ?_
                      refine r_iald X ho23.1 (ho23.2 5 (by decide)) rfl rfl rfl (by decide) dX5_learn_196 h (fun h => ?_)
                      refine r_lald X ho23.1 (ho23.2 10 (by decide)) rfl rfl rfl (by decide) dX5_learn_197 h (fun h => ?_)
                      refine r_lload X 0 dX5_learn_198 rfl ?_
                      refine r_ladd X dX5_learn_200 ?_
                      obtain ⟨r27, h26, h⟩ := bd_some h
                      refine r_cS (Wd := 2) X (fun l D sz => w_J3_min_2 l D sz h26) q743 q742 q115 q744 hy_J3_min_2 rfl dX5_learn_201 rfl rfl (by simp only [List.map_cons, List.map_nil, cat_rf, cat_iv, cat_jv, cat_ref, List.sum_cons, List.sum_nil]; decide) ⟨Nat.le_of_ble_eq_true rfl, Nat.le_of_ble_eq_true rfl⟩ ⟨Nat.le_of_ble_eq_true rfl, Nat.le_of_ble_eq_true rfl⟩ ?_
                      refine r_last X ho23.1 (ho23.2 10 (by decide)) rfl rfl rfl (by decide) dX5_learn_204 h (fun h => ?_)
                      refine r_let h (fun σ28 eσ28 h => ?_)
                      refine r_aload_n X 1 dX5_learn_205 rfl rfl ?_
                      have hk29 : oc σ28 (a0) 4 := by rw [eσ28]; exact ho23
                      refine r_getA (kf := 10) X hk29.1 rfl (by decide) (by decide) (Or.inl q230) dX5_learn_206 ?_
                      refine r_aload_n X 1 dX5_learn_209 rfl rfl ?_
                      refine r_getA (kf := 5) X hk29.1 rfl (by decide) (by decide) (Or.inl q217) dX5_learn_210 ?_
                      refine r_iload_n X 3 dX5_learn_213 rfl rfl ?_
                      refine r_iald X hk29.1 (hk29.2 5 (by decide)) rfl rfl rfl (by decide) dX5_learn_214 h (fun h => ?_)
                      refine r_aload_n X 1 dX5_learn_215 rfl rfl ?_
                      refine r_getA (kf := 10) X hk29.1 rfl (by decide) (by decide) (Or.inl q230) dX5_learn_216 ?_
                      refine r_aload_n X 1 dX5_learn_219 rfl rfl ?_
                      refine r_getA (kf := 5) X hk29.1 rfl (by decide) (by decide) (Or.inl q217) dX5_learn_220 ?_
                      refine r_iload_n X 3 dX5_learn_223 rfl rfl ?_
                      refine r_iald X hk29.1 (hk29.2 5 (by decide)) rfl rfl rfl (by decide) dX5_learn_224 h (fun h => ?_)
                      refine r_lald X hk29.1 (hk29.2 10 (by decide)) rfl rfl rfl (by decide) dX5_learn_225 h (fun h => ?_)
                      refine r_aload_n X 1 dX5_learn_226 rfl rfl ?_
                      refine r_getA (kf := 10) X hk29.1 rfl (by decide) (by decide) (Or.inl q230) dX5_learn_227 ?_
                      refine r_aload_n X 1 dX5_learn_230 rfl rfl ?_
                      refine r_getA (kf := 4) X hk29.1 rfl (by decide) (by decide) (Or.inl q214) dX5_learn_231 ?_
                      refine r_iload_n X 3 dX5_learn_234 rfl rfl ?_
                      refine r_iald X hk29.1 (hk29.2 4 (by decide)) rfl rfl rfl (by decide) dX5_learn_235 h (fun h => ?_)
                      refine r_lald X hk29.1 (hk29.2 10 (by decide)) rfl rfl rfl (by decide) dX5_learn_236 h (fun h => ?_)
                      refine r_lload X 0 dX5_learn_237 rfl ?_
                      refine r_ladd X dX5_learn_239 ?_
                      obtain ⟨r31, h30, h⟩ := bd_some h
                      refine r_cS (Wd := 2) X (fun l D sz => w_J3_min_2 l D sz h30) q743 q742 q115 q744 hy_J3_min_2 rfl dX5_learn_240 rfl rfl (by simp only [List.map_cons, List.map_nil, cat_rf, cat_iv, cat_jv, cat_ref, List.sum_cons, List.sum_nil]; decide) ⟨Nat.le_of_ble_eq_true rfl, Nat.le_of_ble_eq_true rfl⟩ ⟨Nat.le_of_ble_eq_true rfl, Nat.le_of_ble_eq_true rfl⟩ ?_
                      refine r_last X hk29.1 (hk29.2 10 (by decide)) rfl rfl rfl (by decide) dX5_learn_243 h (fun h => ?_)
                      refine r_let h (fun σ32 eσ32 h => ?_)
                      refine r_iinc X 3 dX5_learn_244 rfl (hL 3 (by decide)) (lv' := [(3, iv ((v3_2 + 1))), (4, jv (((20000 * (gI (σ_2) (a0) 6 (v3_2))) + 1))), (0, .ref (a0)), (2, iv (v2_1))]) rfl ?_
                      refine r_goto (tgt := 143) X dX5_learn_247 (by decide) ?_
                      exact V.sub [2, 3, 0] rfl (ihb2 _ (Option.some.inj h).symm)
                    · have h := ex_some h ihe2
                      refine r_iinc X 1 dX5_learn_250 rfl (hL 2 (by decide)) (lv' := [(2, iv ((v2_1 + 1))), (0, .ref (a0)), (3, iv (v3_2))]) rfl ?_
                      refine r_goto (tgt := 135) X dX5_learn_253 (by decide) ?_
                      exact V.sub [1, 0] rfl (ihb1 _ (Option.some.inj h).symm)
                  exact V.sub [1, 2, 0] rfl (L143 (0, σ_1) h)
                · have h := ex_some h ihe1
                  cases h
                  exact r_vret X hr dX5_learn_256
              exact V.sub [1, 0] rfl (L135 (0, σ_1) h)
          exact V.sub [1, 2, 0] rfl (L90 (1, σ10) h)
      exact V.sub [2, 1, 0] rfl (L57 (0, 1) h)
  exact V.sub [1, 0] rfl (L6 (0, σ2) h)
theorem hy_X1_isCalendar : yX1_isCalendar.cls ≠ "java/lang/invoke/MethodHandle" ∧ yX1_isCalendar.cls ≠ "java/lang/invoke/VarHandle" ∧ (parseMethodDescriptor yX1_isCalendar.desc).map (fun d => d.parameters.length) = some 1 := by decide +kernel
set_option maxHeartbeats 4000000 in
theorem w_X1_isCalendar (l : Launch) (D : DD) (sz : Nat) {σ : St} {a0 : Nat} {x1 : Int} {w : Int} (h : f_X1_isCalendar σ a0 x1 = some w) : Mt l yX1_isCalendar cX1_isCalendar 2 (some FieldType.boolean) ({ frames := 0, cells := 0, slots := 0, locals := 0 } : Room) D sz σ [.ref a0, iv (x1)] (.returned (some (iv w))) (σ) 0 0 := by
  refine Mt.of (by decide +kernel) (Nat.le_of_ble_eq_true rfl) ?_
  intro Γ X hr hnl hini hnoh
  have X : Cx Γ cX1_isCalendar "DayBoy" _ := X
  have hL : ∀ i, i < 2 → i < nLc Γ := fun i q => by rw [hnl]; exact q
  show V Γ σ 0 0 0 [(0, .ref (a0)), (1, iv (x1))] []
  unfold f_X1_isCalendar at h
  obtain ⟨ho0, h⟩ := cO_some h
  refine r_iload_n X 1 dX1_isCalendar_0 rfl rfl ?_
  refine r_if_lt (tgt := 16) X dX1_isCalendar_1 (by decide) h (fun c1 h => ?_) (fun c1 h => ?_)
  · refine r_iconst X dX1_isCalendar_16 ?_
    cases h
    exact r_zret X hr (by decide) dX1_isCalendar_17
  · refine r_iload_n X 1 dX1_isCalendar_4 rfl rfl ?_
    refine r_aload_n X 0 dX1_isCalendar_5 rfl rfl ?_
    refine r_getI (kf := 6) X ho0.1 rfl (by decide) rfl (Or.inl q312) dX1_isCalendar_6 ?_
    refine r_icmp_ge (tgt := 16) X dX1_isCalendar_9 (by decide) h (fun c3 h => ?_) (fun c3 h => ?_)
    · refine r_iconst X dX1_isCalendar_12 ?_
      refine r_goto (tgt := 17) X dX1_isCalendar_13 (by decide) ?_
      cases h
      exact r_zret X hr (by decide) dX1_isCalendar_17
    · refine r_iconst X dX1_isCalendar_16 ?_
      cases h
      exact r_zret X hr (by decide) dX1_isCalendar_17
theorem hy_X3_hasDay : yX3_hasDay.cls ≠ "java/lang/invoke/MethodHandle" ∧ yX3_hasDay.cls ≠ "java/lang/invoke/VarHandle" ∧ (parseMethodDescriptor yX3_hasDay.desc).map (fun d => d.parameters.length) = some 1 := by decide +kernel
set_option maxHeartbeats 4000000 in
theorem w_X3_hasDay (l : Launch) (D : DD) (sz : Nat) {σ : St} {a0 : Nat} {x1 : Int} {w : Int} (h : f_X3_hasDay σ a0 x1 = some w) : Mt l yX3_hasDay cX3_hasDay 2 (some FieldType.boolean) ({ frames := 0, cells := 0, slots := 0, locals := 0 } : Room) D sz σ [.ref a0, iv (x1)] (.returned (some (iv w))) (σ) 0 0 := by
  refine Mt.of (by decide +kernel) (Nat.le_of_ble_eq_true rfl) ?_
  intro Γ X hr hnl hini hnoh
  have X : Cx Γ cX3_hasDay "DayBoy$Era" _ := X
  have hL : ∀ i, i < 2 → i < nLc Γ := fun i q => by rw [hnl]; exact q
  show V Γ σ 0 0 0 [(0, .ref (a0)), (1, iv (x1))] []
  unfold f_X3_hasDay at h
  obtain ⟨ho0, h⟩ := cO_some h
  refine r_iload_n X 1 dX3_hasDay_0 rfl rfl ?_
  refine r_aload_n X 0 dX3_hasDay_1 rfl rfl ?_
  refine r_getI (kf := 1) X ho0.1 rfl (by decide) rfl (Or.inl q175) dX3_hasDay_2 ?_
  refine r_icmp_lt (tgt := 30) X dX3_hasDay_5 (by decide) h (fun c1 h => ?_) (fun c1 h => ?_)
  · refine r_iconst X dX3_hasDay_30 ?_
    cases h
    exact r_zret X hr (by decide) dX3_hasDay_31
  · refine r_iload_n X 1 dX3_hasDay_8 rfl rfl ?_
    refine r_aload_n X 0 dX3_hasDay_9 rfl rfl ?_
    refine r_getI (kf := 1) X ho0.1 rfl (by decide) rfl (Or.inl q175) dX3_hasDay_10 ?_
    refine r_isub X dX3_hasDay_13 ?_
    refine r_aload_n X 0 dX3_hasDay_14 rfl rfl ?_
    refine r_getI (kf := 3) X ho0.1 rfl (by decide) rfl (Or.inl q178) dX3_hasDay_15 ?_
    refine r_aload_n X 0 dX3_hasDay_18 rfl rfl ?_
    refine r_getI (kf := 2) X ho0.1 rfl (by decide) rfl (Or.inl q176) dX3_hasDay_19 ?_
    refine r_isub X dX3_hasDay_22 ?_
    refine r_icmp_gt (tgt := 30) X dX3_hasDay_23 (by decide) h (fun c3 h => ?_) (fun c3 h => ?_)
    · refine r_iconst X dX3_hasDay_30 ?_
      cases h
      exact r_zret X hr (by decide) dX3_hasDay_31
    · refine r_iconst X dX3_hasDay_26 ?_
      refine r_goto (tgt := 31) X dX3_hasDay_27 (by decide) ?_
      cases h
      exact r_zret X hr (by decide) dX3_hasDay_31
theorem hy_X2_eraAt : yX2_eraAt.cls ≠ "java/lang/invoke/MethodHandle" ∧ yX2_eraAt.cls ≠ "java/lang/invoke/VarHandle" ∧ (parseMethodDescriptor yX2_eraAt.desc).map (fun d => d.parameters.length) = some 1 := by decide +kernel
set_option maxHeartbeats 4000000 in
theorem w_X2_eraAt (l : Launch) (D : DD) (sz : Nat) {σ : St} {a0 : Nat} {x1 : Int} {w : Option Nat} (h : f_X2_eraAt σ a0 x1 = some w) : Mt l yX2_eraAt cX2_eraAt 3 (some (FieldType.object "DayBoy$Era")) ({ frames := 1, cells := 0, slots := 0, locals := 13 } : Room) D sz σ [.ref a0, iv (x1)] (.returned (some (va_rf w))) (σ) 0 0 := by
  refine Mt.of (by decide +kernel) (Nat.le_of_ble_eq_true rfl) ?_
  intro Γ X hr hnl hini hnoh
  have X : Cx Γ cX2_eraAt "DayBoy$Almanac" _ := X
  have hL : ∀ i, i < 3 → i < nLc Γ := fun i q => by rw [hnl]; exact q
  show V Γ σ 0 0 0 [(0, .ref (a0)), (1, iv (x1))] []
  unfold f_X2_eraAt at h
  obtain ⟨ho0, h⟩ := cO_some h
  refine r_iconst X dX2_eraAt_0 ?_
  refine r_istore_n X dX2_eraAt_1 rfl (hL 2 (by decide)) (lv' := [(2, iv (0)), (0, .ref (a0)), (1, iv (x1))]) rfl ?_
  have L2 : ∀ s : Int, lp (fun s => f_X2_eraAt_b2 (σ) (a0) (x1) s) s = some w → V Γ (σ) 0 0 2 [(0, .ref (a0)), (1, iv (x1)), (2, iv (s))] [] := by
    refine lp_rule (P := fun s : Int => V Γ (σ) 0 0 2 [(0, .ref (a0)), (1, iv (x1)), (2, iv (s))] []) ?_
    intro s z1 h ihb1 ihe1
    obtain ⟨v2_1, es⟩ : ∃ q, q = s := ⟨s, rfl⟩
    subst es
    have h : f_X2_eraAt_b2 (σ) (a0) (x1) v2_1 = some z1 := h
    unfold f_X2_eraAt_b2 at h
    show V Γ σ 0 0 2 [(0, .ref (a0)), (1, iv (x1)), (2, iv (v2_1))] []
    refine r_iload_n X 2 dX2_eraAt_2 rfl rfl ?_
    refine r_aload_n X 0 dX2_eraAt_3 rfl rfl ?_
    refine r_getI (kf := 1) X ho0.1 rfl (by decide) rfl (Or.inl q190) dX2_eraAt_4 ?_
    refine r_icmp_ge (tgt := 36) X dX2_eraAt_7 (by decide) h (fun c1 h => ?_) (fun c1 h => ?_)
    · refine r_aload_n X 0 dX2_eraAt_10 rfl rfl ?_
      refine r_getA (kf := 0) X ho0.1 rfl (by decide) (by decide) (Or.inl q189) dX2_eraAt_11 ?_
      refine r_iload_n X 2 dX2_eraAt_14 rfl rfl ?_
      refine r_aald X ho0.1 (ho0.2 0 (by decide)) rfl rfl (by decide) rfl (by decide) dX2_eraAt_15 h (fun b2 h => ?_)
      refine r_iload_n X 1 dX2_eraAt_16 rfl rfl ?_
      obtain ⟨ho4, h⟩ := cO_some h
      obtain ⟨r5, h3, h⟩ := bd_some h
      refine r_cV (Wd := 0) X (fun l D sz => w_X3_hasDay l D sz h3) ho4.1 rfl q763 q764 q762 q106 q765 hy_X3_hasDay rfl dX2_eraAt_17 rfl rfl (Nat.le_of_ble_eq_true rfl) ⟨Nat.le_of_ble_eq_true rfl, Nat.le_of_ble_eq_true rfl⟩ ⟨Nat.le_of_ble_eq_true rfl, Nat.le_of_ble_eq_true rfl⟩ ?_
      refine r_if_eq (tgt := 30) X dX2_eraAt_20 (by decide) h (fun c6 h => ?_) (fun c6 h => ?_)
      · refine r_iinc X 2 dX2_eraAt_30 rfl (hL 2 (by decide)) (lv' := [(2, iv ((v2_1 + 1))), (0, .ref (a0)), (1, iv (x1))]) rfl ?_
        refine r_goto (tgt := 2) X dX2_eraAt_33 (by decide) ?_
        exact V.sub [1, 2, 0] rfl (ihb1 _ (Option.some.inj h).symm)
      · have h := ex_some h ihe1
        refine r_aload_n X 0 dX2_eraAt_23 rfl rfl ?_
        refine r_getA (kf := 0) X ho0.1 rfl (by decide) (by decide) (Or.inl q189) dX2_eraAt_24 ?_
        refine r_iload_n X 2 dX2_eraAt_27 rfl rfl ?_
        refine r_aald X ho0.1 (ho0.2 0 (by decide)) rfl rfl (by decide) rfl (by decide) dX2_eraAt_28 h (fun b7 h => ?_)
        cases h
        exact r_aret (q := some _) X hr dX2_eraAt_29
    · have h := ex_some h ihe1
      refine r_null X dX2_eraAt_36 ?_
      cases h
      exact r_aret (q := none) X hr dX2_eraAt_37
  exact V.sub [1, 2, 0] rfl (L2 (0) h)
theorem hy_X3_placeOf : yX3_placeOf.cls ≠ "java/lang/invoke/MethodHandle" ∧ yX3_placeOf.cls ≠ "java/lang/invoke/VarHandle" ∧ (parseMethodDescriptor yX3_placeOf.desc).map (fun d => d.parameters.length) = some 1 := by decide +kernel
set_option maxHeartbeats 4000000 in
theorem w_X3_placeOf (l : Launch) (D : DD) (sz : Nat) {σ : St} {a0 : Nat} {x1 : Int} {w : Int} (h : f_X3_placeOf σ a0 x1 = some w) : Mt l yX3_placeOf cX3_placeOf 2 (some FieldType.int) ({ frames := 0, cells := 0, slots := 0, locals := 0 } : Room) D sz σ [.ref a0, iv (x1)] (.returned (some (iv w))) (σ) 0 0 := by
  refine Mt.of (by decide +kernel) (Nat.le_of_ble_eq_true rfl) ?_
  intro Γ X hr hnl hini hnoh
  have X : Cx Γ cX3_placeOf "DayBoy$Era" _ := X
  have hL : ∀ i, i < 2 → i < nLc Γ := fun i q => by rw [hnl]; exact q
  show V Γ σ 0 0 0 [(0, .ref (a0)), (1, iv (x1))] []
  unfold f_X3_placeOf at h
  obtain ⟨ho0, h⟩ := cO_some h
  refine r_iload_n X 1 dX3_placeOf_0 rfl rfl ?_
  refine r_aload_n X 0 dX3_placeOf_1 rfl rfl ?_
  refine r_getI (kf := 1) X ho0.1 rfl (by decide) rfl (Or.inl q175) dX3_placeOf_2 ?_
  refine r_isub X dX3_placeOf_5 ?_
  refine r_aload_n X 0 dX3_placeOf_6 rfl rfl ?_
  refine r_getI (kf := 2) X ho0.1 rfl (by decide) rfl (Or.inl q176) dX3_placeOf_7 ?_
  refine r_iadd X dX3_placeOf_10 ?_
  cases h
  exact r_iret X hr dX3_placeOf_11
theorem hy_X4_ofYear : yX4_ofYear.cls ≠ "java/lang/invoke/MethodHandle" ∧ yX4_ofYear.cls ≠ "java/lang/invoke/VarHandle" ∧ (parseMethodDescriptor yX4_ofYear.desc).map (fun d => d.parameters.length) = some 1 := by decide +kernel
set_option maxHeartbeats 4000000 in
theorem w_X4_ofYear (l : Launch) (D : DD) (sz : Nat) {σ : St} {a0 : Nat} {x1 : Int} {w : Int} (h : f_X4_ofYear σ a0 x1 = some w) : Mt l yX4_ofYear cX4_ofYear 2 (some FieldType.int) ({ frames := 0, cells := 0, slots := 0, locals := 0 } : Room) D sz σ [.ref a0, iv (x1)] (.returned (some (iv w))) (σ) 0 0 := by
  refine Mt.of (by decide +kernel) (Nat.le_of_ble_eq_true rfl) ?_
  intro Γ X hr hnl hini hnoh
  have X : Cx Γ cX4_ofYear "DayBoy$Leaps" _ := X
  have hL : ∀ i, i < 2 → i < nLc Γ := fun i q => by rw [hnl]; exact q
  show V Γ σ 0 0 0 [(0, .ref (a0)), (1, iv (x1))] []
  unfold f_X4_ofYear at h
  obtain ⟨ho0, h⟩ := cO_some h
  refine r_sipush X dX4_ofYear_0 (by decide) ?_
  refine r_iload_n X 1 dX4_ofYear_3 rfl rfl ?_
  refine r_iconst X dX4_ofYear_4 ?_
  refine r_isub X dX4_ofYear_5 ?_
  refine r_imul X dX4_ofYear_6 ?_
  refine r_aload_n X 0 dX4_ofYear_7 rfl rfl ?_
  refine r_getA (kf := 1) X ho0.1 rfl (by decide) (by decide) (Or.inl q155) dX4_ofYear_8 ?_
  refine r_iload_n X 1 dX4_ofYear_11 rfl rfl ?_
  refine r_iald X ho0.1 (ho0.2 1 (by decide)) rfl rfl rfl (by decide) dX4_ofYear_12 h (fun h => ?_)
  refine r_iadd X dX4_ofYear_13 ?_
  cases h
  exact r_iret X hr dX4_ofYear_14
theorem hy_X4_yearAt : yX4_yearAt.cls ≠ "java/lang/invoke/MethodHandle" ∧ yX4_yearAt.cls ≠ "java/lang/invoke/VarHandle" ∧ (parseMethodDescriptor yX4_yearAt.desc).map (fun d => d.parameters.length) = some 1 := by decide +kernel
set_option maxHeartbeats 4000000 in
theorem w_X4_yearAt (l : Launch) (D : DD) (sz : Nat) {σ : St} {a0 : Nat} {x1 : Int} {w : Int} (h : f_X4_yearAt σ a0 x1 = some w) : Mt l yX4_yearAt cX4_yearAt 5 (some FieldType.int) ({ frames := 1, cells := 0, slots := 0, locals := 13 } : Room) D sz σ [.ref a0, iv (x1)] (.returned (some (iv w))) (σ) 0 0 := by
  refine Mt.of (by decide +kernel) (Nat.le_of_ble_eq_true rfl) ?_
  intro Γ X hr hnl hini hnoh
  have X : Cx Γ cX4_yearAt "DayBoy$Leaps" _ := X
  have hL : ∀ i, i < 5 → i < nLc Γ := fun i q => by rw [hnl]; exact q
  show V Γ σ 0 0 0 [(0, .ref (a0)), (1, iv (x1))] []
  unfold f_X4_yearAt at h
  obtain ⟨ho0, h⟩ := cO_some h
  refine r_iconst X dX4_yearAt_0 ?_
  refine r_istore_n X dX4_yearAt_1 rfl (hL 2 (by decide)) (lv' := [(2, iv (1)), (0, .ref (a0)), (1, iv (x1))]) rfl ?_
  refine r_sipush X dX4_yearAt_2 (by decide) ?_
  refine r_istore_n X dX4_yearAt_5 rfl (hL 3 (by decide)) (lv' := [(3, iv (9999)), (2, iv (1)), (0, .ref (a0)), (1, iv (x1))]) rfl ?_
  have L6 : ∀ s : Int × Int, lp (fun s => f_X4_yearAt_b6 (σ) (a0) (x1) s.1 s.2) s = some w → V Γ (σ) 0 0 6 [(0, .ref (a0)), (1, iv (x1)), (2, iv (s.1)), (3, iv (s.2))] [] := by
    refine lp_rule (P := fun s : Int × Int => V Γ (σ) 0 0 6 [(0, .ref (a0)), (1, iv (x1)), (2, iv (s.1)), (3, iv (s.2))] []) ?_
    intro s z1 h ihb1 ihe1
    obtain ⟨v2_1, v3_1⟩ := s
    have h : f_X4_yearAt_b6 (σ) (a0) (x1) v2_1 v3_1 = some z1 := h
    unfold f_X4_yearAt_b6 at h
    show V Γ σ 0 0 6 [(0, .ref (a0)), (1, iv (x1)), (2, iv (v2_1)), (3, iv (v3_1))] []
    refine r_iload_n X 2 dX4_yearAt_6 rfl rfl ?_
    refine r_iload_n X 3 dX4_yearAt_7 rfl rfl ?_
    refine r_icmp_ge (tgt := 44) X dX4_yearAt_8 (by decide) h (fun c1 h => ?_) (fun c1 h => ?_)
    · refine r_iload_n X 2 dX4_yearAt_11 rfl rfl ?_
      refine r_iload_n X 3 dX4_yearAt_12 rfl rfl ?_
      refine r_iadd X dX4_yearAt_13 ?_
      refine r_iconst X dX4_yearAt_14 ?_
      refine r_iadd X dX4_yearAt_15 ?_
      refine r_iconst X dX4_yearAt_16 ?_
      obtain ⟨c2, h⟩ := ck_some h
      refine r_idiv X dX4_yearAt_17 c2 (by decide) (by decide) ?_
      refine r_istore X dX4_yearAt_18 (hL 4 (by decide)) (lv' := [(4, iv ((Int.tdiv (((v2_1 + v3_1) + 1)) (2)))), (0, .ref (a0)), (1, iv (x1)), (2, iv (v2_1)), (3, iv (v3_1))]) rfl ?_
      refine r_aload_n X 1 dX4_yearAt_20 rfl rfl ?_
      refine r_iload X 0 dX4_yearAt_21 rfl ?_
      obtain ⟨r4, h3, h⟩ := bd_some h
      refine r_cV (Wd := 0) X (fun l D sz => w_X4_ofYear l D sz h3) ho0.1 rfl q577 qs11 q575 q107 q578 hy_X4_ofYear rfl dX4_yearAt_23 rfl rfl (Nat.le_of_ble_eq_true rfl) ⟨Nat.le_of_ble_eq_true rfl, Nat.le_of_ble_eq_true rfl⟩ ⟨Nat.le_of_ble_eq_true rfl, Nat.le_of_ble_eq_true rfl⟩ ?_
      refine r_iload_n X 2 dX4_yearAt_26 rfl rfl ?_
      refine r_icmp_gt (tgt := 36) X dX4_yearAt_27 (by decide) h (fun c5 h => ?_) (fun c5 h => ?_)
      · refine r_iload X 0 dX4_yearAt_36 rfl ?_
        refine r_iconst X dX4_yearAt_38 ?_
        refine r_isub X dX4_yearAt_39 ?_
        refine r_istore_n X dX4_yearAt_40 rfl (hL 3 (by decide)) (lv' := [(3, iv (((Int.tdiv (((v2_1 + v3_1) + 1)) (2)) - 1))), (4, iv ((Int.tdiv (((v2_1 + v3_1) + 1)) (2)))), (0, .ref (a0)), (1, iv (x1)), (2, iv (v2_1))]) rfl ?_
        refine r_goto (tgt := 6) X dX4_yearAt_41 (by decide) ?_
        exact V.sub [2, 3, 4, 0] rfl (ihb1 _ (Option.some.inj h).symm)
      · refine r_iload X 0 dX4_yearAt_30 rfl ?_
        refine r_istore_n X dX4_yearAt_32 rfl (hL 2 (by decide)) (lv' := [(2, iv ((Int.tdiv (((v2_1 + v3_1) + 1)) (2)))), (4, iv ((Int.tdiv (((v2_1 + v3_1) + 1)) (2)))), (0, .ref (a0)), (1, iv (x1)), (3, iv (v3_1))]) rfl ?_
        refine r_goto (tgt := 41) X dX4_yearAt_33 (by decide) ?_
        refine r_goto (tgt := 6) X dX4_yearAt_41 (by decide) ?_
        exact V.sub [2, 3, 0, 4] rfl (ihb1 _ (Option.some.inj h).symm)
    · have h := ex_some h ihe1
      refine r_iload_n X 2 dX4_yearAt_44 rfl rfl ?_
      cases h
      exact r_iret X hr dX4_yearAt_45
  exact V.sub [2, 3, 1, 0] rfl (L6 (1, 9999) h)
theorem hy_X4_isLeap : yX4_isLeap.cls ≠ "java/lang/invoke/MethodHandle" ∧ yX4_isLeap.cls ≠ "java/lang/invoke/VarHandle" ∧ (parseMethodDescriptor yX4_isLeap.desc).map (fun d => d.parameters.length) = some 1 := by decide +kernel
set_option maxHeartbeats 4000000 in
theorem w_X4_isLeap (l : Launch) (D : DD) (sz : Nat) {σ : St} {a0 : Nat} {x1 : Int} {w : Int} (h : f_X4_isLeap σ a0 x1 = some w) : Mt l yX4_isLeap cX4_isLeap 3 (some FieldType.boolean) ({ frames := 0, cells := 0, slots := 0, locals := 0 } : Room) D sz σ [.ref a0, iv (x1)] (.returned (some (iv w))) (σ) 0 0 := by
  refine Mt.of (by decide +kernel) (Nat.le_of_ble_eq_true rfl) ?_
  intro Γ X hr hnl hini hnoh
  have X : Cx Γ cX4_isLeap "DayBoy$Leaps" _ := X
  have hL : ∀ i, i < 3 → i < nLc Γ := fun i q => by rw [hnl]; exact q
  show V Γ σ 0 0 0 [(0, .ref (a0)), (1, iv (x1))] []
  unfold f_X4_isLeap at h
  obtain ⟨ho0, h⟩ := cO_some h
  have J28 : ∀ (v2_j28 : Int), f_X4_isLeap_j28 (σ) (a0) v2_j28 = some w → V Γ σ 0 0 28 [(0, .ref (a0)), (2, iv (v2_j28))] [] := by
    intro v2_j28 h
    unfold f_X4_isLeap_j28 at h
    refine r_iload_n X 1 dX4_isLeap_28 rfl rfl ?_
    refine r_if_lt (tgt := 45) X dX4_isLeap_29 (by decide) h (fun c1 h => ?_) (fun c1 h => ?_)
    · refine r_iconst X dX4_isLeap_45 ?_
      cases h
      exact r_zret X hr (by decide) dX4_isLeap_46
    · refine r_aload_n X 0 dX4_isLeap_32 rfl rfl ?_
      refine r_getA (kf := 2) X ho0.1 rfl (by decide) (by decide) (Or.inl q156) dX4_isLeap_33 ?_
      refine r_iload_n X 1 dX4_isLeap_36 rfl rfl ?_
      refine r_zald X ho0.1 (ho0.2 2 (by decide)) rfl rfl rfl (by decide) dX4_isLeap_37 h (fun h => ?_)
      refine r_if_eq (tgt := 45) X dX4_isLeap_38 (by decide) h (fun c3 h => ?_) (fun c3 h => ?_)
      · refine r_iconst X dX4_isLeap_45 ?_
        cases h
        exact r_zret X hr (by decide) dX4_isLeap_46
      · refine r_iconst X dX4_isLeap_41 ?_
        refine r_goto (tgt := 46) X dX4_isLeap_42 (by decide) ?_
        cases h
        exact r_zret X hr (by decide) dX4_isLeap_46
  refine r_aload_n X 0 dX4_isLeap_0 rfl rfl ?_
  refine r_getI (kf := 3) X ho0.1 rfl (by decide) rfl (Or.inl q157) dX4_isLeap_1 ?_
  refine r_iconst X dX4_isLeap_4 ?_
  refine r_isub X dX4_isLeap_5 ?_
  refine r_istore_n X dX4_isLeap_6 rfl (hL 2 (by decide)) (lv' := [(2, iv (((gI (σ) (a0) 3 0) - 1))), (0, .ref (a0)), (1, iv (x1))]) rfl ?_
  have L7 : ∀ s : Int, lp (fun s => f_X4_isLeap_b7 (σ) (a0) (x1) s) s = some w → V Γ (σ) 0 0 7 [(0, .ref (a0)), (1, iv (x1)), (2, iv (s))] [] := by
    refine lp_rule (P := fun s : Int => V Γ (σ) 0 0 7 [(0, .ref (a0)), (1, iv (x1)), (2, iv (s))] []) ?_
    intro s z1 h ihb1 ihe1
    obtain ⟨v2_1, es⟩ : ∃ q, q = s := ⟨s, rfl⟩
    subst es
    have h : f_X4_isLeap_b7 (σ) (a0) (x1) v2_1 = some z1 := h
    unfold f_X4_isLeap_b7 at h
    show V Γ σ 0 0 7 [(0, .ref (a0)), (1, iv (x1)), (2, iv (v2_1))] []
    refine r_iload_n X 2 dX4_isLeap_7 rfl rfl ?_
    refine r_if_lt (tgt := 28) X dX4_isLeap_8 (by decide) h (fun c6 h => ?_) (fun c6 h => ?_)
    · have h := ex_some h ihe1
      exact V.sub [0, 2] rfl (J28 (v2_1) h)
    · refine r_iload_n X 1 dX4_isLeap_11 rfl rfl ?_
      refine r_aload_n X 0 dX4_isLeap_12 rfl rfl ?_
      refine r_getA (kf := 0) X ho0.1 rfl (by decide) (by decide) (Or.inl q154) dX4_isLeap_13 ?_
      refine r_iload_n X 2 dX4_isLeap_16 rfl rfl ?_
      refine r_iald X ho0.1 (ho0.2 0 (by decide)) rfl rfl rfl (by decide) dX4_isLeap_17 h (fun h => ?_)
      obtain ⟨⟨c7, c8, c9⟩, h⟩ := ck_some h
      refine r_irem X dX4_isLeap_18 c7 c8 c9 ?_
      refine r_if_eq (tgt := 28) X dX4_isLeap_19 (by decide) h (fun c10 h => ?_) (fun c10 h => ?_)
      · have h := ex_some h ihe1
        exact V.sub [0, 2] rfl (J28 (v2_1) h)
      · refine r_iinc X 2 dX4_isLeap_22 rfl (hL 2 (by decide)) (lv' := [(2, iv ((v2_1 + (-1)))), (0, .ref (a0)), (1, iv (x1))]) rfl ?_
        refine r_goto (tgt := 7) X dX4_isLeap_25 (by decide) ?_
        exact V.sub [1, 2, 0] rfl (ihb1 _ (Option.some.inj h).symm)
  exact V.sub [1, 2, 0] rfl (L7 (((gI (σ) (a0) 3 0) - 1)) h)
theorem hy_X4_length : yX4_length.cls ≠ "java/lang/invoke/MethodHandle" ∧ yX4_length.cls ≠ "java/lang/invoke/VarHandle" ∧ (parseMethodDescriptor yX4_length.desc).map (fun d => d.parameters.length) = some 2 := by decide +kernel
set_option maxHeartbeats 4000000 in
theorem w_X4_length (l : Launch) (D : DD) (sz : Nat) {σ : St} {a0 : Nat} {x1 : Int} {x2 : Int} {w : Int} (h : f_X4_length σ a0 x1 x2 = some w) : Mt l yX4_length cX4_length 3 (some FieldType.int) ({ frames := 1, cells := 0, slots := 0, locals := 14 } : Room) D sz σ [.ref a0, iv (x1), iv (x2)] (.returned (some (iv w))) (σ) 0 0 := by
  refine Mt.of (by decide +kernel) (Nat.le_of_ble_eq_true rfl) ?_
  intro Γ X hr hnl hini hnoh
  have X : Cx Γ cX4_length "DayBoy$Leaps" _ := X
  have hL : ∀ i, i < 3 → i < nLc Γ := fun i q => by rw [hnl]; exact q
  show V Γ σ 0 0 0 [(0, .ref (a0)), (1, iv (x1)), (2, iv (x2))] []
  unfold f_X4_length at h
  obtain ⟨ho0, h⟩ := cO_some h
  refine r_iload_n X 2 dX4_length_0 rfl rfl ?_
  refine r_iconst X dX4_length_1 ?_
  refine r_icmp_ne (tgt := 23) X dX4_length_2 (by decide) h (fun c1 h => ?_) (fun c1 h => ?_)
  · refine r_aload_n X 0 dX4_length_5 rfl rfl ?_
    refine r_iload_n X 1 dX4_length_6 rfl rfl ?_
    obtain ⟨r3, h2, h⟩ := bd_some h
    refine r_cV (Wd := 0) X (fun l D sz => w_X4_isLeap l D sz h2) ho0.1 rfl q559 q560 q558 q107 q561 hy_X4_isLeap rfl dX4_length_7 rfl rfl (Nat.le_of_ble_eq_true rfl) ⟨Nat.le_of_ble_eq_true rfl, Nat.le_of_ble_eq_true rfl⟩ ⟨Nat.le_of_ble_eq_true rfl, Nat.le_of_ble_eq_true rfl⟩ ?_
    refine r_if_eq (tgt := 18) X dX4_length_10 (by decide) h (fun c4 h => ?_) (fun c4 h => ?_)
    · refine r_bipush X dX4_length_18 (by decide) ?_
      refine r_goto (tgt := 53) X dX4_length_20 (by decide) ?_
      cases h
      exact r_iret X hr dX4_length_53
    · refine r_bipush X dX4_length_13 (by decide) ?_
      refine r_goto (tgt := 53) X dX4_length_15 (by decide) ?_
      cases h
      exact r_iret X hr dX4_length_53
  · refine r_iload_n X 2 dX4_length_23 rfl rfl ?_
    refine r_iconst X dX4_length_24 ?_
    refine r_icmp_eq (tgt := 46) X dX4_length_25 (by decide) h (fun c5 h => ?_) (fun c5 h => ?_)
    · refine r_bipush X dX4_length_46 (by decide) ?_
      refine r_goto (tgt := 53) X dX4_length_48 (by decide) ?_
      cases h
      exact r_iret X hr dX4_length_53
    · refine r_iload_n X 2 dX4_length_28 rfl rfl ?_
      refine r_bipush X dX4_length_29 (by decide) ?_
      refine r_icmp_eq (tgt := 46) X dX4_length_31 (by decide) h (fun c6 h => ?_) (fun c6 h => ?_)
      · refine r_bipush X dX4_length_46 (by decide) ?_
        refine r_goto (tgt := 53) X dX4_length_48 (by decide) ?_
        cases h
        exact r_iret X hr dX4_length_53
      · refine r_iload_n X 2 dX4_length_34 rfl rfl ?_
        refine r_bipush X dX4_length_35 (by decide) ?_
        refine r_icmp_eq (tgt := 46) X dX4_length_37 (by decide) h (fun c7 h => ?_) (fun c7 h => ?_)
        · refine r_bipush X dX4_length_46 (by decide) ?_
          refine r_goto (tgt := 53) X dX4_length_48 (by decide) ?_
          cases h
          exact r_iret X hr dX4_length_53
        · refine r_iload_n X 2 dX4_length_40 rfl rfl ?_
          refine r_bipush X dX4_length_41 (by decide) ?_
          refine r_icmp_ne (tgt := 51) X dX4_length_43 (by decide) h (fun c8 h => ?_) (fun c8 h => ?_)
          · refine r_bipush X dX4_length_46 (by decide) ?_
            refine r_goto (tgt := 53) X dX4_length_48 (by decide) ?_
            cases h
            exact r_iret X hr dX4_length_53
          · refine r_bipush X dX4_length_51 (by decide) ?_
            cases h
            exact r_iret X hr dX4_length_53
theorem hy_X4_ahead : yX4_ahead.cls ≠ "java/lang/invoke/MethodHandle" ∧ yX4_ahead.cls ≠ "java/lang/invoke/VarHandle" ∧ (parseMethodDescriptor yX4_ahead.desc).map (fun d => d.parameters.length) = some 2 := by decide +kernel
set_option maxHeartbeats 4000000 in
theorem w_X4_ahead (l : Launch) (D : DD) (sz : Nat) {σ : St} {a0 : Nat} {x1 : Int} {x2 : Int} {w : Int} (h : f_X4_ahead σ a0 x1 x2 = some w) : Mt l yX4_ahead cX4_ahead 5 (some FieldType.int) ({ frames := 2, cells := 0, slots := 0, locals := 29 } : Room) D sz σ [.ref a0, iv (x1), iv (x2)] (.returned (some (iv w))) (σ) 0 0 := by
  refine Mt.of (by decide +kernel) (Nat.le_of_ble_eq_true rfl) ?_
  intro Γ X hr hnl hini hnoh
  have X : Cx Γ cX4_ahead "DayBoy$Leaps" _ := X
  have hL : ∀ i, i < 5 → i < nLc Γ := fun i q => by rw [hnl]; exact q
  show V Γ σ 0 0 0 [(0, .ref (a0)), (1, iv (x1)), (2, iv (x2))] []
  unfold f_X4_ahead at h
  obtain ⟨ho0, h⟩ := cO_some h
  refine r_iconst X dX4_ahead_0 ?_
  refine r_istore_n X dX4_ahead_1 rfl (hL 3 (by decide)) (lv' := [(3, iv (0)), (0, .ref (a0)), (1, iv (x1)), (2, iv (x2))]) rfl ?_
  refine r_iconst X dX4_ahead_2 ?_
  refine r_istore X dX4_ahead_3 (hL 4 (by decide)) (lv' := [(4, iv (1)), (3, iv (0)), (0, .ref (a0)), (1, iv (x1)), (2, iv (x2))]) rfl ?_
  have L5 : ∀ s : Int × Int, lp (fun s => f_X4_ahead_b5 (σ) (a0) (x1) (x2) s.1 s.2) s = some w → V Γ (σ) 0 0 5 [(0, .ref (a0)), (1, iv (x1)), (2, iv (x2)), (3, iv (s.1)), (4, iv (s.2))] [] := by
    refine lp_rule (P := fun s : Int × Int => V Γ (σ) 0 0 5 [(0, .ref (a0)), (1, iv (x1)), (2, iv (x2)), (3, iv (s.1)), (4, iv (s.2))] []) ?_
    intro s z1 h ihb1 ihe1
    obtain ⟨v3_1, v4_1⟩ := s
    have h : f_X4_ahead_b5 (σ) (a0) (x1) (x2) v3_1 v4_1 = some z1 := h
    unfold f_X4_ahead_b5 at h
    show V Γ σ 0 0 5 [(0, .ref (a0)), (1, iv (x1)), (2, iv (x2)), (3, iv (v3_1)), (4, iv (v4_1))] []
    refine r_iload X 4 dX4_ahead_5 rfl ?_
    refine r_iload_n X 2 dX4_ahead_7 rfl rfl ?_
    refine r_icmp_ge (tgt := 27) X dX4_ahead_8 (by decide) h (fun c1 h => ?_) (fun c1 h => ?_)
    · refine r_iload_n X 3 dX4_ahead_11 rfl rfl ?_
      refine r_aload_n X 0 dX4_ahead_12 rfl rfl ?_
      refine r_iload_n X 1 dX4_ahead_13 rfl rfl ?_
      refine r_iload X 4 dX4_ahead_14 rfl ?_
      obtain ⟨r3, h2, h⟩ := bd_some h
      refine r_cV (Wd := 1) X (fun l D sz => w_X4_length l D sz h2) ho0.1 rfl q568 q569 q583 q107 q570 hy_X4_length rfl dX4_ahead_16 rfl rfl (Nat.le_of_ble_eq_true rfl) ⟨Nat.le_of_ble_eq_true rfl, Nat.le_of_ble_eq_true rfl⟩ ⟨Nat.le_of_ble_eq_true rfl, Nat.le_of_ble_eq_true rfl⟩ ?_
      refine r_iadd X dX4_ahead_19 ?_
      refine r_istore_n X dX4_ahead_20 rfl (hL 3 (by decide)) (lv' := [(3, iv ((v3_1 + r3))), (0, .ref (a0)), (1, iv (x1)), (2, iv (x2)), (4, iv (v4_1))]) rfl ?_
      refine r_iinc X 4 dX4_ahead_21 rfl (hL 4 (by decide)) (lv' := [(4, iv ((v4_1 + 1))), (3, iv ((v3_1 + r3))), (0, .ref (a0)), (1, iv (x1)), (2, iv (x2))]) rfl ?_
      refine r_goto (tgt := 5) X dX4_ahead_24 (by decide) ?_
      exact V.sub [2, 3, 4, 1, 0] rfl (ihb1 _ (Option.some.inj h).symm)
    · have h := ex_some h ihe1
      refine r_iload_n X 3 dX4_ahead_27 rfl rfl ?_
      cases h
      exact r_iret X hr dX4_ahead_28
  exact V.sub [2, 3, 4, 1, 0] rfl (L5 (0, 1) h)
theorem hy_X4_monthAt : yX4_monthAt.cls ≠ "java/lang/invoke/MethodHandle" ∧ yX4_monthAt.cls ≠ "java/lang/invoke/VarHandle" ∧ (parseMethodDescriptor yX4_monthAt.desc).map (fun d => d.parameters.length) = some 1 := by decide +kernel
set_option maxHeartbeats 4000000 in
theorem w_X4_monthAt (l : Launch) (D : DD) (sz : Nat) {σ : St} {a0 : Nat} {x1 : Int} {w : Int} (h : f_X4_monthAt σ a0 x1 = some w) : Mt l yX4_monthAt cX4_monthAt 4 (some FieldType.int) ({ frames := 3, cells := 0, slots := 0, locals := 46 } : Room) D sz σ [.ref a0, iv (x1)] (.returned (some (iv w))) (σ) 0 0 := by
  refine Mt.of (by decide +kernel) (Nat.le_of_ble_eq_true rfl) ?_
  intro Γ X hr hnl hini hnoh
  have X : Cx Γ cX4_monthAt "DayBoy$Leaps" _ := X
  have hL : ∀ i, i < 4 → i < nLc Γ := fun i q => by rw [hnl]; exact q
  show V Γ σ 0 0 0 [(0, .ref (a0)), (1, iv (x1))] []
  unfold f_X4_monthAt at h
  obtain ⟨ho0, h⟩ := cO_some h
  refine r_aload_n X 0 dX4_monthAt_0 rfl rfl ?_
  refine r_iload_n X 1 dX4_monthAt_1 rfl rfl ?_
  obtain ⟨r2, h1, h⟩ := bd_some h
  refine r_cV (Wd := 0) X (fun l D sz => w_X4_yearAt l D sz h1) ho0.1 rfl q771 q772 q778 q107 q773 hy_X4_yearAt rfl dX4_monthAt_2 rfl rfl (Nat.le_of_ble_eq_true rfl) ⟨Nat.le_of_ble_eq_true rfl, Nat.le_of_ble_eq_true rfl⟩ ⟨Nat.le_of_ble_eq_true rfl, Nat.le_of_ble_eq_true rfl⟩ ?_
  refine r_istore_n X dX4_monthAt_5 rfl (hL 2 (by decide)) (lv' := [(2, iv (r2)), (0, .ref (a0)), (1, iv (x1))]) rfl ?_
  refine r_bipush X dX4_monthAt_6 (by decide) ?_
  refine r_istore_n X dX4_monthAt_8 rfl (hL 3 (by decide)) (lv' := [(3, iv (12)), (2, iv (r2)), (0, .ref (a0)), (1, iv (x1))]) rfl ?_
  have L9 : ∀ s : Int, lp (fun s => f_X4_monthAt_b9 (σ) (a0) (x1) (r2) s) s = some w → V Γ (σ) 0 0 9 [(0, .ref (a0)), (1, iv (x1)), (2, iv (r2)), (3, iv (s))] [] := by
    refine lp_rule (P := fun s : Int => V Γ (σ) 0 0 9 [(0, .ref (a0)), (1, iv (x1)), (2, iv (r2)), (3, iv (s))] []) ?_
    intro s z1 h ihb1 ihe1
    obtain ⟨v3_1, es⟩ : ∃ q, q = s := ⟨s, rfl⟩
    subst es
    have h : f_X4_monthAt_b9 (σ) (a0) (x1) (r2) v3_1 = some z1 := h
    unfold f_X4_monthAt_b9 at h
    show V Γ σ 0 0 9 [(0, .ref (a0)), (1, iv (x1)), (2, iv (r2)), (3, iv (v3_1))] []
    refine r_aload_n X 0 dX4_monthAt_9 rfl rfl ?_
    refine r_iload_n X 2 dX4_monthAt_10 rfl rfl ?_
    obtain ⟨r4, h3, h⟩ := bd_some h
    refine r_cV (Wd := 0) X (fun l D sz => w_X4_ofYear l D sz h3) ho0.1 rfl q577 qs11 q575 q107 q578 hy_X4_ofYear rfl dX4_monthAt_11 rfl rfl (Nat.le_of_ble_eq_true rfl) ⟨Nat.le_of_ble_eq_true rfl, Nat.le_of_ble_eq_true rfl⟩ ⟨Nat.le_of_ble_eq_true rfl, Nat.le_of_ble_eq_true rfl⟩ ?_
    refine r_aload_n X 0 dX4_monthAt_14 rfl rfl ?_
    refine r_iload_n X 2 dX4_monthAt_15 rfl rfl ?_
    refine r_iload_n X 3 dX4_monthAt_16 rfl rfl ?_
    obtain ⟨r6, h5, h⟩ := bd_some h
    refine r_cV (Wd := 1) X (fun l D sz => w_X4_ahead l D sz h5) ho0.1 rfl q581 qs12 q579 q107 q582 hy_X4_ahead rfl dX4_monthAt_17 rfl rfl (Nat.le_of_ble_eq_true rfl) ⟨Nat.le_of_ble_eq_true rfl, Nat.le_of_ble_eq_true rfl⟩ ⟨Nat.le_of_ble_eq_true rfl, Nat.le_of_ble_eq_true rfl⟩ ?_
    refine r_iadd X dX4_monthAt_20 ?_
    refine r_iload_n X 1 dX4_monthAt_21 rfl rfl ?_
    refine r_icmp_le (tgt := 31) X dX4_monthAt_22 (by decide) h (fun c7 h => ?_) (fun c7 h => ?_)
    · refine r_iinc X 3 dX4_monthAt_25 rfl (hL 3 (by decide)) (lv' := [(3, iv ((v3_1 + (-1)))), (0, .ref (a0)), (1, iv (x1)), (2, iv (r2))]) rfl ?_
      refine r_goto (tgt := 9) X dX4_monthAt_28 (by decide) ?_
      exact V.sub [1, 2, 3, 0] rfl (ihb1 _ (Option.some.inj h).symm)
    · have h := ex_some h ihe1
      refine r_iload_n X 3 dX4_monthAt_31 rfl rfl ?_
      cases h
      exact r_iret X hr dX4_monthAt_32
  exact V.sub [2, 3, 1, 0] rfl (L9 (12) h)
theorem hy_X4_dayAt : yX4_dayAt.cls ≠ "java/lang/invoke/MethodHandle" ∧ yX4_dayAt.cls ≠ "java/lang/invoke/VarHandle" ∧ (parseMethodDescriptor yX4_dayAt.desc).map (fun d => d.parameters.length) = some 1 := by decide +kernel
set_option maxHeartbeats 4000000 in
theorem w_X4_dayAt (l : Launch) (D : DD) (sz : Nat) {σ : St} {a0 : Nat} {x1 : Int} {w : Int} (h : f_X4_dayAt σ a0 x1 = some w) : Mt l yX4_dayAt cX4_dayAt 2 (some FieldType.int) ({ frames := 4, cells := 0, slots := 0, locals := 64 } : Room) D sz σ [.ref a0, iv (x1)] (.returned (some (iv w))) (σ) 0 0 := by
  refine Mt.of (by decide +kernel) (Nat.le_of_ble_eq_true rfl) ?_
  intro Γ X hr hnl hini hnoh
  have X : Cx Γ cX4_dayAt "DayBoy$Leaps" _ := X
  have hL : ∀ i, i < 2 → i < nLc Γ := fun i q => by rw [hnl]; exact q
  show V Γ σ 0 0 0 [(0, .ref (a0)), (1, iv (x1))] []
  unfold f_X4_dayAt at h
  obtain ⟨ho0, h⟩ := cO_some h
  refine r_iload_n X 1 dX4_dayAt_0 rfl rfl ?_
  refine r_aload_n X 0 dX4_dayAt_1 rfl rfl ?_
  refine r_aload_n X 0 dX4_dayAt_2 rfl rfl ?_
  refine r_iload_n X 1 dX4_dayAt_3 rfl rfl ?_
  obtain ⟨r2, h1, h⟩ := bd_some h
  refine r_cV (Wd := 2) X (fun l D sz => w_X4_yearAt l D sz h1) ho0.1 rfl q771 q772 q778 q107 q773 hy_X4_yearAt rfl dX4_dayAt_4 rfl rfl (Nat.le_of_ble_eq_true rfl) ⟨Nat.le_of_ble_eq_true rfl, Nat.le_of_ble_eq_true rfl⟩ ⟨Nat.le_of_ble_eq_true rfl, Nat.le_of_ble_eq_true rfl⟩ ?_
  obtain ⟨r4, h3, h⟩ := bd_some h
  refine r_cV (Wd := 1) X (fun l D sz => w_X4_ofYear l D sz h3) ho0.1 rfl q577 qs11 q575 q107 q578 hy_X4_ofYear rfl dX4_dayAt_7 rfl rfl (Nat.le_of_ble_eq_true rfl) ⟨Nat.le_of_ble_eq_true rfl, Nat.le_of_ble_eq_true rfl⟩ ⟨Nat.le_of_ble_eq_true rfl, Nat.le_of_ble_eq_true rfl⟩ ?_
  refine r_isub X dX4_dayAt_10 ?_
  refine r_aload_n X 0 dX4_dayAt_11 rfl rfl ?_
  refine r_aload_n X 0 dX4_dayAt_12 rfl rfl ?_
  refine r_iload_n X 1 dX4_dayAt_13 rfl rfl ?_
  obtain ⟨r6, h5, h⟩ := bd_some h
  refine r_cV (Wd := 2) X (fun l D sz => w_X4_yearAt l D sz h5) ho0.1 rfl q771 q772 q778 q107 q773 hy_X4_yearAt rfl dX4_dayAt_14 rfl rfl (Nat.le_of_ble_eq_true rfl) ⟨Nat.le_of_ble_eq_true rfl, Nat.le_of_ble_eq_true rfl⟩ ⟨Nat.le_of_ble_eq_true rfl, Nat.le_of_ble_eq_true rfl⟩ ?_
  refine r_aload_n X 0 dX4_dayAt_17 rfl rfl ?_
  refine r_iload_n X 1 dX4_dayAt_18 rfl rfl ?_
  obtain ⟨r8, h7, h⟩ := bd_some h
  refine r_cV (Wd := 3) X (fun l D sz => w_X4_monthAt l D sz h7) ho0.1 rfl q775 q776 q783 q107 q777 hy_X4_monthAt rfl dX4_dayAt_19 rfl rfl (Nat.le_of_ble_eq_true rfl) ⟨Nat.le_of_ble_eq_true rfl, Nat.le_of_ble_eq_true rfl⟩ ⟨Nat.le_of_ble_eq_true rfl, Nat.le_of_ble_eq_true rfl⟩ ?_
  obtain ⟨r10, h9, h⟩ := bd_some h
  refine r_cV (Wd := 1) X (fun l D sz => w_X4_ahead l D sz h9) ho0.1 rfl q581 qs12 q579 q107 q582 hy_X4_ahead rfl dX4_dayAt_22 rfl rfl (Nat.le_of_ble_eq_true rfl) ⟨Nat.le_of_ble_eq_true rfl, Nat.le_of_ble_eq_true rfl⟩ ⟨Nat.le_of_ble_eq_true rfl, Nat.le_of_ble_eq_true rfl⟩ ?_
  refine r_isub X dX4_dayAt_25 ?_
  refine r_iconst X dX4_dayAt_26 ?_
  refine r_iadd X dX4_dayAt_27 ?_
  cases h
  exact r_iret X hr dX4_dayAt_28
theorem hy_X2_date : yX2_date.cls ≠ "java/lang/invoke/MethodHandle" ∧ yX2_date.cls ≠ "java/lang/invoke/VarHandle" ∧ (parseMethodDescriptor yX2_date.desc).map (fun d => d.parameters.length) = some 2 := by decide +kernel
set_option maxHeartbeats 4000000 in
theorem w_X2_date (l : Launch) (D : DD) (sz : Nat) {σ : St} {a0 : Nat} {x1 : Int} {x2 : Int} {w : Int} (h : f_X2_date σ a0 x1 x2 = some w) : Mt l yX2_date cX2_date 5 (some FieldType.int) ({ frames := 5, cells := 0, slots := 0, locals := 77 } : Room) D sz σ [.ref a0, iv (x1), iv (x2)] (.returned (some (iv w))) (σ) 0 0 := by
  refine Mt.of (by decide +kernel) (Nat.le_of_ble_eq_true rfl) ?_
  intro Γ X hr hnl hini hnoh
  have X : Cx Γ cX2_date "DayBoy$Almanac" _ := X
  have hL : ∀ i, i < 5 → i < nLc Γ := fun i q => by rw [hnl]; exact q
  show V Γ σ 0 0 0 [(0, .ref (a0)), (1, iv (x1)), (2, iv (x2))] []
  unfold f_X2_date at h
  obtain ⟨ho0, h⟩ := cO_some h
  refine r_aload_n X 0 dX2_date_0 rfl rfl ?_
  refine r_iload_n X 1 dX2_date_1 rfl rfl ?_
  obtain ⟨r2, h1, h⟩ := bd_some h
  refine r_cV (Wd := 0) X (fun l D sz => w_X2_eraAt l D sz h1) ho0.1 rfl q760 qs23 q758 q105 q761 hy_X2_eraAt rfl dX2_date_2 rfl rfl (Nat.le_of_ble_eq_true rfl) ⟨Nat.le_of_ble_eq_true rfl, Nat.le_of_ble_eq_true rfl⟩ ⟨Nat.le_of_ble_eq_true rfl, Nat.le_of_ble_eq_true rfl⟩ ?_
  refine r_astore_n_q X dX2_date_5 rfl (hL 3 (by decide)) (lv' := [(3, va_rf (r2)), (0, .ref (a0)), (1, iv (x1)), (2, iv (x2))]) rfl ?_
  refine r_aload_nq X 0 dX2_date_6 rfl rfl ?_
  refine r_ifnonnull (tgt := 12) X dX2_date_7 (by decide) h (fun c4 h => ?_) (fun b3 c4 h => ?_)
  · refine r_iconst X dX2_date_10 ?_
    cases h
    exact r_iret X hr dX2_date_11
  · subst c4
    refine r_aload_n X 0 dX2_date_12 rfl rfl ?_
    refine r_iload_n X 2 dX2_date_13 rfl rfl ?_
    obtain ⟨ho6, h⟩ := cO_some h
    obtain ⟨r7, h5, h⟩ := bd_some h
    refine r_cV (Wd := 0) X (fun l D sz => w_X3_placeOf l D sz h5) ho6.1 rfl q767 q768 q766 q106 q769 hy_X3_placeOf rfl dX2_date_14 rfl rfl (Nat.le_of_ble_eq_true rfl) ⟨Nat.le_of_ble_eq_true rfl, Nat.le_of_ble_eq_true rfl⟩ ⟨Nat.le_of_ble_eq_true rfl, Nat.le_of_ble_eq_true rfl⟩ ?_
    refine r_istore X dX2_date_17 (hL 4 (by decide)) (lv' := [(4, iv (r7)), (3, .ref (b3)), (0, .ref (a0)), (1, iv (x1)), (2, iv (x2))]) rfl ?_
    refine r_iload_n X 4 dX2_date_19 rfl rfl ?_
    refine r_if_ne (tgt := 35) X dX2_date_20 (by decide) h (fun c8 h => ?_) (fun c8 h => ?_)
    · refine r_aload_n X 1 dX2_date_23 rfl rfl ?_
      refine r_getP (kf := 0) X ho6.1 rfl (by decide) rfl (Or.inr ⟨_, q173⟩) dX2_date_24 h (fun b9 h => ?_)
      refine r_iload X 0 dX2_date_27 rfl ?_
      obtain ⟨ho11, h⟩ := cO_some h
      obtain ⟨r12, h10, h⟩ := bd_some h
      refine r_cV (Wd := 0) X (fun l D sz => w_X4_yearAt l D sz h10) ho11.1 rfl q771 q772 q770 q107 q773 hy_X4_yearAt rfl dX2_date_29 rfl rfl (Nat.le_of_ble_eq_true rfl) ⟨Nat.le_of_ble_eq_true rfl, Nat.le_of_ble_eq_true rfl⟩ ⟨Nat.le_of_ble_eq_true rfl, Nat.le_of_ble_eq_true rfl⟩ ?_
      refine r_goto (tgt := 73) X dX2_date_32 (by decide) ?_
      cases h
      exact r_iret X hr dX2_date_73
    · refine r_iload_n X 4 dX2_date_35 rfl rfl ?_
      refine r_iconst X dX2_date_36 ?_
      refine r_icmp_ne (tgt := 52) X dX2_date_37 (by decide) h (fun c13 h => ?_) (fun c13 h => ?_)
      · refine r_aload_n X 1 dX2_date_40 rfl rfl ?_
        refine r_getP (kf := 0) X ho6.1 rfl (by decide) rfl (Or.inr ⟨_, q173⟩) dX2_date_41 h (fun b14 h => ?_)
        refine r_iload X 0 dX2_date_44 rfl ?_
        obtain ⟨ho16, h⟩ := cO_some h
        obtain ⟨r17, h15, h⟩ := bd_some h
        refine r_cV (Wd := 0) X (fun l D sz => w_X4_monthAt l D sz h15) ho16.1 rfl q775 q776 q774 q107 q777 hy_X4_monthAt rfl dX2_date_46 rfl rfl (Nat.le_of_ble_eq_true rfl) ⟨Nat.le_of_ble_eq_true rfl, Nat.le_of_ble_eq_true rfl⟩ ⟨Nat.le_of_ble_eq_true rfl, Nat.le_of_ble_eq_true rfl⟩ ?_
        refine r_goto (tgt := 73) X dX2_date_49 (by decide) ?_
        cases h
        exact r_iret X hr dX2_date_73
      · refine r_iload_n X 4 dX2_date_52 rfl rfl ?_
        refine r_iconst X dX2_date_53 ?_
        refine r_icmp_ne (tgt := 69) X dX2_date_54 (by decide) h (fun c18 h => ?_) (fun c18 h => ?_)
        · refine r_aload_n X 1 dX2_date_57 rfl rfl ?_
          refine r_getP (kf := 0) X ho6.1 rfl (by decide) rfl (Or.inr ⟨_, q173⟩) dX2_date_58 h (fun b19 h => ?_)
          refine r_iload X 0 dX2_date_61 rfl ?_
          obtain ⟨ho21, h⟩ := cO_some h
          obtain ⟨r22, h20, h⟩ := bd_some h
          refine r_cV (Wd := 0) X (fun l D sz => w_X4_dayAt l D sz h20) ho21.1 rfl q780 q781 q779 q107 q782 hy_X4_dayAt rfl dX2_date_63 rfl rfl (Nat.le_of_ble_eq_true rfl) ⟨Nat.le_of_ble_eq_true rfl, Nat.le_of_ble_eq_true rfl⟩ ⟨Nat.le_of_ble_eq_true rfl, Nat.le_of_ble_eq_true rfl⟩ ?_
          refine r_goto (tgt := 73) X dX2_date_66 (by decide) ?_
          cases h
          exact r_iret X hr dX2_date_73
        · refine r_iload_n X 3 dX2_date_69 rfl rfl ?_
          refine r_bipush X dX2_date_70 (by decide) ?_
          obtain ⟨c23, h⟩ := ck_some h
          refine r_irem X dX2_date_72 c23 (by decide) (by decide) ?_
          cases h
          exact r_iret X hr dX2_date_73
theorem hy_X1_date : yX1_date.cls ≠ "java/lang/invoke/MethodHandle" ∧ yX1_date.cls ≠ "java/lang/invoke/VarHandle" ∧ (parseMethodDescriptor yX1_date.desc).map (fun d => d.parameters.length) = some 3 := by decide +kernel
set_option maxHeartbeats 4000000 in
theorem w_X1_date (l : Launch) (D : DD) (sz : Nat) {σ : St} {a0 : Nat} {x1 : Int} {x2 : Int} {x3 : Int} {w : Int} (h : f_X1_date σ a0 x1 x2 x3 = some w) : Mt l yX1_date cX1_date 4 (some FieldType.int) ({ frames := 6, cells := 0, slots := 0, locals := 93 } : Room) D sz σ [.ref a0, iv (x1), iv (x2), iv (x3)] (.returned (some (iv w))) (σ) 0 0 := by
  refine Mt.of (by decide +kernel) (Nat.le_of_ble_eq_true rfl) ?_
  intro Γ X hr hnl hini hnoh
  have X : Cx Γ cX1_date "DayBoy" _ := X
  have hL : ∀ i, i < 4 → i < nLc Γ := fun i q => by rw [hnl]; exact q
  show V Γ σ 0 0 0 [(0, .ref (a0)), (1, iv (x1)), (2, iv (x2)), (3, iv (x3))] []
  unfold f_X1_date at h
  obtain ⟨ho0, h⟩ := cO_some h
  refine r_aload_n X 0 dX1_date_0 rfl rfl ?_
  refine r_iload_n X 1 dX1_date_1 rfl rfl ?_
  obtain ⟨r2, h1, h⟩ := bd_some h
  refine r_cV (Wd := 0) X (fun l D sz => w_X1_isCalendar l D sz h1) ho0.1 rfl q751 qs22 q749 q104 q752 hy_X1_isCalendar rfl dX1_date_2 rfl rfl (Nat.le_of_ble_eq_true rfl) ⟨Nat.le_of_ble_eq_true rfl, Nat.le_of_ble_eq_true rfl⟩ ⟨Nat.le_of_ble_eq_true rfl, Nat.le_of_ble_eq_true rfl⟩ ?_
  refine r_if_eq (tgt := 38) X dX1_date_5 (by decide) h (fun c3 h => ?_) (fun c3 h => ?_)
  · refine r_iconst X dX1_date_38 ?_
    cases h
    exact r_iret X hr dX1_date_39
  · refine r_iload_n X 2 dX1_date_8 rfl rfl ?_
    refine r_if_lt (tgt := 38) X dX1_date_9 (by decide) h (fun c4 h => ?_) (fun c4 h => ?_)
    · refine r_iconst X dX1_date_38 ?_
      cases h
      exact r_iret X hr dX1_date_39
    · refine r_iload_n X 3 dX1_date_12 rfl rfl ?_
      obtain ⟨c5, h⟩ := ck_some h
      refine r_i2l X dX1_date_13 c5 ?_
      refine r_lconst (y := 0) X dX1_date_14 rfl ?_
      refine r_ldc2 (z := 3) X q753 dX1_date_15 rfl ?_
      obtain ⟨r7, h6, h⟩ := bd_some h
      refine r_cS (Wd := 0) X (fun l D sz => w_X1_isIn l D sz h6) q414 q413 q104 q415 hy_X1_isIn rfl dX1_date_18 rfl rfl (Nat.le_of_ble_eq_true rfl) ⟨Nat.le_of_ble_eq_true rfl, Nat.le_of_ble_eq_true rfl⟩ ⟨Nat.le_of_ble_eq_true rfl, Nat.le_of_ble_eq_true rfl⟩ ?_
      refine r_if_eq (tgt := 38) X dX1_date_21 (by decide) h (fun c8 h => ?_) (fun c8 h => ?_)
      · refine r_iconst X dX1_date_38 ?_
        cases h
        exact r_iret X hr dX1_date_39
      · refine r_aload_n X 0 dX1_date_24 rfl rfl ?_
        refine r_getA (kf := 4) X ho0.1 rfl (by decide) (by decide) (Or.inl q310) dX1_date_25 ?_
        refine r_iload_n X 1 dX1_date_28 rfl rfl ?_
        refine r_aald X ho0.1 (ho0.2 4 (by decide)) rfl rfl (by decide) rfl (by decide) dX1_date_29 h (fun b9 h => ?_)
        refine r_iload_n X 2 dX1_date_30 rfl rfl ?_
        refine r_iload_n X 3 dX1_date_31 rfl rfl ?_
        obtain ⟨ho11, h⟩ := cO_some h
        obtain ⟨r12, h10, h⟩ := bd_some h
        refine r_cV (Wd := 0) X (fun l D sz => w_X2_date l D sz h10) ho11.1 rfl q755 q756 q754 q105 q757 hy_X2_date rfl dX1_date_32 rfl rfl (Nat.le_of_ble_eq_true rfl) ⟨Nat.le_of_ble_eq_true rfl, Nat.le_of_ble_eq_true rfl⟩ ⟨Nat.le_of_ble_eq_true rfl, Nat.le_of_ble_eq_true rfl⟩ ?_
        refine r_goto (tgt := 39) X dX1_date_35 (by decide) ?_
        cases h
        exact r_iret X hr dX1_date_39
theorem hy_X4_place : yX4_place.cls ≠ "java/lang/invoke/MethodHandle" ∧ yX4_place.cls ≠ "java/lang/invoke/VarHandle" ∧ (parseMethodDescriptor yX4_place.desc).map (fun d => d.parameters.length) = some 3 := by decide +kernel
set_option maxHeartbeats 4000000 in
theorem w_X4_place (l : Launch) (D : DD) (sz : Nat) {σ : St} {a0 : Nat} {x1 : Int} {x2 : Int} {x3 : Int} {w : Int} (h : f_X4_place σ a0 x1 x2 x3 = some w) : Mt l yX4_place cX4_place 4 (some FieldType.int) ({ frames := 3, cells := 0, slots := 0, locals := 46 } : Room) D sz σ [.ref a0, iv (x1), iv (x2), iv (x3)] (.returned (some (iv w))) (σ) 0 0 := by
  refine Mt.of (by decide +kernel) (Nat.le_of_ble_eq_true rfl) ?_
  intro Γ X hr hnl hini hnoh
  have X : Cx Γ cX4_place "DayBoy$Leaps" _ := X
  have hL : ∀ i, i < 4 → i < nLc Γ := fun i q => by rw [hnl]; exact q
  show V Γ σ 0 0 0 [(0, .ref (a0)), (1, iv (x1)), (2, iv (x2)), (3, iv (x3))] []
  unfold f_X4_place at h
  obtain ⟨ho0, h⟩ := cO_some h
  refine r_aload_n X 0 dX4_place_0 rfl rfl ?_
  refine r_iload_n X 1 dX4_place_1 rfl rfl ?_
  obtain ⟨r2, h1, h⟩ := bd_some h
  refine r_cV (Wd := 0) X (fun l D sz => w_X4_ofYear l D sz h1) ho0.1 rfl q577 qs11 q575 q107 q578 hy_X4_ofYear rfl dX4_place_2 rfl rfl (Nat.le_of_ble_eq_true rfl) ⟨Nat.le_of_ble_eq_true rfl, Nat.le_of_ble_eq_true rfl⟩ ⟨Nat.le_of_ble_eq_true rfl, Nat.le_of_ble_eq_true rfl⟩ ?_
  refine r_aload_n X 0 dX4_place_5 rfl rfl ?_
  refine r_iload_n X 1 dX4_place_6 rfl rfl ?_
  refine r_iload_n X 2 dX4_place_7 rfl rfl ?_
  obtain ⟨r4, h3, h⟩ := bd_some h
  refine r_cV (Wd := 1) X (fun l D sz => w_X4_ahead l D sz h3) ho0.1 rfl q581 qs12 q579 q107 q582 hy_X4_ahead rfl dX4_place_8 rfl rfl (Nat.le_of_ble_eq_true rfl) ⟨Nat.le_of_ble_eq_true rfl, Nat.le_of_ble_eq_true rfl⟩ ⟨Nat.le_of_ble_eq_true rfl, Nat.le_of_ble_eq_true rfl⟩ ?_
  refine r_iadd X dX4_place_11 ?_
  refine r_iload_n X 3 dX4_place_12 rfl rfl ?_
  refine r_aload_n X 0 dX4_place_13 rfl rfl ?_
  refine r_iload_n X 1 dX4_place_14 rfl rfl ?_
  refine r_iload_n X 2 dX4_place_15 rfl rfl ?_
  obtain ⟨r6, h5, h⟩ := bd_some h
  refine r_cV (Wd := 2) X (fun l D sz => w_X4_length l D sz h5) ho0.1 rfl q568 q569 q583 q107 q570 hy_X4_length rfl dX4_place_16 rfl rfl (Nat.le_of_ble_eq_true rfl) ⟨Nat.le_of_ble_eq_true rfl, Nat.le_of_ble_eq_true rfl⟩ ⟨Nat.le_of_ble_eq_true rfl, Nat.le_of_ble_eq_true rfl⟩ ?_
  obtain ⟨r8, h7, h⟩ := bd_some h
  refine r_cS (Wd := 1) X (fun l D sz => w_J3_min l D sz h7) q585 q584 q115 q586 hy_J3_min rfl dX4_place_19 rfl rfl (Nat.le_of_ble_eq_true rfl) ⟨Nat.le_of_ble_eq_true rfl, Nat.le_of_ble_eq_true rfl⟩ ⟨Nat.le_of_ble_eq_true rfl, Nat.le_of_ble_eq_true rfl⟩ ?_
  refine r_iadd X dX4_place_22 ?_
  refine r_iconst X dX4_place_23 ?_
  refine r_isub X dX4_place_24 ?_
  cases h
  exact r_iret X hr dX4_place_25
theorem hy_X3_has : yX3_has.cls ≠ "java/lang/invoke/MethodHandle" ∧ yX3_has.cls ≠ "java/lang/invoke/VarHandle" ∧ (parseMethodDescriptor yX3_has.desc).map (fun d => d.parameters.length) = some 3 := by decide +kernel
set_option maxHeartbeats 4000000 in
theorem w_X3_has (l : Launch) (D : DD) (sz : Nat) {σ : St} {a0 : Nat} {x1 : Int} {x2 : Int} {x3 : Int} {w : Int} (h : f_X3_has σ a0 x1 x2 x3 = some w) : Mt l yX3_has cX3_has 4 (some FieldType.boolean) ({ frames := 4, cells := 0, slots := 0, locals := 61 } : Room) D sz σ [.ref a0, iv (x1), iv (x2), iv (x3)] (.returned (some (iv w))) (σ) 0 0 := by
  refine Mt.of (by decide +kernel) (Nat.le_of_ble_eq_true rfl) ?_
  intro Γ X hr hnl hini hnoh
  have X : Cx Γ cX3_has "DayBoy$Era" _ := X
  have hL : ∀ i, i < 4 → i < nLc Γ := fun i q => by rw [hnl]; exact q
  show V Γ σ 0 0 0 [(0, .ref (a0)), (1, iv (x1)), (2, iv (x2)), (3, iv (x3))] []
  unfold f_X3_has at h
  obtain ⟨ho0, h⟩ := cO_some h
  refine r_iload_n X 3 dX3_has_0 rfl rfl ?_
  refine r_aload_n X 0 dX3_has_1 rfl rfl ?_
  refine r_getP (kf := 0) X ho0.1 rfl (by decide) rfl (Or.inl q172) dX3_has_2 h (fun b1 h => ?_)
  refine r_iload_n X 1 dX3_has_5 rfl rfl ?_
  refine r_iload_n X 2 dX3_has_6 rfl rfl ?_
  obtain ⟨ho3, h⟩ := cO_some h
  obtain ⟨r4, h2, h⟩ := bd_some h
  refine r_cV (Wd := 1) X (fun l D sz => w_X4_length l D sz h2) ho3.1 rfl q568 q569 q808 q107 q570 hy_X4_length rfl dX3_has_7 rfl rfl (Nat.le_of_ble_eq_true rfl) ⟨Nat.le_of_ble_eq_true rfl, Nat.le_of_ble_eq_true rfl⟩ ⟨Nat.le_of_ble_eq_true rfl, Nat.le_of_ble_eq_true rfl⟩ ?_
  refine r_icmp_gt (tgt := 44) X dX3_has_10 (by decide) h (fun c5 h => ?_) (fun c5 h => ?_)
  · refine r_iconst X dX3_has_44 ?_
    cases h
    exact r_zret X hr (by decide) dX3_has_45
  · refine r_aload_n X 0 dX3_has_13 rfl rfl ?_
    refine r_getP (kf := 0) X ho0.1 rfl (by decide) rfl (Or.inl q172) dX3_has_14 h (fun b7 h => ?_)
    refine r_iload_n X 1 dX3_has_17 rfl rfl ?_
    refine r_iload_n X 2 dX3_has_18 rfl rfl ?_
    refine r_iload_n X 3 dX3_has_19 rfl rfl ?_
    obtain ⟨ho9, h⟩ := cO_some h
    obtain ⟨r10, h8, h⟩ := bd_some h
    refine r_cV (Wd := 0) X (fun l D sz => w_X4_place l D sz h8) ho9.1 rfl q572 q573 q591 q107 q574 hy_X4_place rfl dX3_has_20 rfl rfl (Nat.le_of_ble_eq_true rfl) ⟨Nat.le_of_ble_eq_true rfl, Nat.le_of_ble_eq_true rfl⟩ ⟨Nat.le_of_ble_eq_true rfl, Nat.le_of_ble_eq_true rfl⟩ ?_
    obtain ⟨c11, h⟩ := ck_some h
    refine r_i2l X dX3_has_23 c11 ?_
    refine r_aload_n X 0 dX3_has_24 rfl rfl ?_
    refine r_getI (kf := 2) X ho0.1 rfl (by decide) rfl (Or.inl q176) dX3_has_25 ?_
    obtain ⟨c12, h⟩ := ck_some h
    refine r_i2l X dX3_has_28 c12 ?_
    refine r_aload_n X 0 dX3_has_29 rfl rfl ?_
    refine r_getI (kf := 3) X ho0.1 rfl (by decide) rfl (Or.inl q178) dX3_has_30 ?_
    obtain ⟨c13, h⟩ := ck_some h
    refine r_i2l X dX3_has_33 c13 ?_
    obtain ⟨r15, h14, h⟩ := bd_some h
    refine r_cSN (Wd := 0) X (fun l D sz => w_X1_isIn l D sz h14) q414 q809 q104 q415 hy_X1_isIn rfl dX3_has_34 rfl rfl (Nat.le_of_ble_eq_true rfl) ⟨Nat.le_of_ble_eq_true rfl, Nat.le_of_ble_eq_true rfl⟩ ⟨Nat.le_of_ble_eq_true rfl, Nat.le_of_ble_eq_true rfl⟩ ?_
    refine r_if_eq (tgt := 44) X dX3_has_37 (by decide) h (fun c16 h => ?_) (fun c16 h => ?_)
    · refine r_iconst X dX3_has_44 ?_
      cases h
      exact r_zret X hr (by decide) dX3_has_45
    · refine r_iconst X dX3_has_40 ?_
      refine r_goto (tgt := 45) X dX3_has_41 (by decide) ?_
      cases h
      exact r_zret X hr (by decide) dX3_has_45
theorem hy_X2_eraOf : yX2_eraOf.cls ≠ "java/lang/invoke/MethodHandle" ∧ yX2_eraOf.cls ≠ "java/lang/invoke/VarHandle" ∧ (parseMethodDescriptor yX2_eraOf.desc).map (fun d => d.parameters.length) = some 3 := by decide +kernel
set_option maxHeartbeats 4000000 in
theorem w_X2_eraOf (l : Launch) (D : DD) (sz : Nat) {σ : St} {a0 : Nat} {x1 : Int} {x2 : Int} {x3 : Int} {w : Option Nat} (h : f_X2_eraOf σ a0 x1 x2 x3 = some w) : Mt l yX2_eraOf cX2_eraOf 5 (some (FieldType.object "DayBoy$Era")) ({ frames := 5, cells := 0, slots := 0, locals := 76 } : Room) D sz σ [.ref a0, iv (x1), iv (x2), iv (x3)] (.returned (some (va_rf w))) (σ) 0 0 := by
  refine Mt.of (by decide +kernel) (Nat.le_of_ble_eq_true rfl) ?_
  intro Γ X hr hnl hini hnoh
  have X : Cx Γ cX2_eraOf "DayBoy$Almanac" _ := X
  have hL : ∀ i, i < 5 → i < nLc Γ := fun i q => by rw [hnl]; exact q
  show V Γ σ 0 0 0 [(0, .ref (a0)), (1, iv (x1)), (2, iv (x2)), (3, iv (x3))] []
  unfold f_X2_eraOf at h
  obtain ⟨ho0, h⟩ := cO_some h
  refine r_iload_n X 1 dX2_eraOf_0 rfl rfl ?_
  obtain ⟨c1, h⟩ := ck_some h
  refine r_i2l X dX2_eraOf_1 c1 ?_
  refine r_lconst (y := 1) X dX2_eraOf_2 rfl ?_
  refine r_ldc2 (z := 9999) X q800 dX2_eraOf_3 rfl ?_
  obtain ⟨r3, h2, h⟩ := bd_some h
  refine r_cSN (Wd := 0) X (fun l D sz => w_X1_isIn l D sz h2) q414 q801 q104 q415 hy_X1_isIn rfl dX2_eraOf_6 rfl rfl (Nat.le_of_ble_eq_true rfl) ⟨Nat.le_of_ble_eq_true rfl, Nat.le_of_ble_eq_true rfl⟩ ⟨Nat.le_of_ble_eq_true rfl, Nat.le_of_ble_eq_true rfl⟩ ?_
  refine r_if_eq (tgt := 36) X dX2_eraOf_9 (by decide) h (fun c4 h => ?_) (fun c4 h => ?_)
  · refine r_null X dX2_eraOf_36 ?_
    cases h
    exact r_aret (q := none) X hr dX2_eraOf_37
  · refine r_iload_n X 2 dX2_eraOf_12 rfl rfl ?_
    obtain ⟨c5, h⟩ := ck_some h
    refine r_i2l X dX2_eraOf_13 c5 ?_
    refine r_lconst (y := 1) X dX2_eraOf_14 rfl ?_
    refine r_ldc2 (z := 12) X q802 dX2_eraOf_15 rfl ?_
    obtain ⟨r7, h6, h⟩ := bd_some h
    refine r_cSN (Wd := 0) X (fun l D sz => w_X1_isIn l D sz h6) q414 q801 q104 q415 hy_X1_isIn rfl dX2_eraOf_18 rfl rfl (Nat.le_of_ble_eq_true rfl) ⟨Nat.le_of_ble_eq_true rfl, Nat.le_of_ble_eq_true rfl⟩ ⟨Nat.le_of_ble_eq_true rfl, Nat.le_of_ble_eq_true rfl⟩ ?_
    refine r_if_eq (tgt := 36) X dX2_eraOf_21 (by decide) h (fun c8 h => ?_) (fun c8 h => ?_)
    · refine r_null X dX2_eraOf_36 ?_
      cases h
      exact r_aret (q := none) X hr dX2_eraOf_37
    · refine r_iload_n X 3 dX2_eraOf_24 rfl rfl ?_
      obtain ⟨c9, h⟩ := ck_some h
      refine r_i2l X dX2_eraOf_25 c9 ?_
      refine r_lconst (y := 1) X dX2_eraOf_26 rfl ?_
      refine r_ldc2 (z := 31) X q803 dX2_eraOf_27 rfl ?_
      obtain ⟨r11, h10, h⟩ := bd_some h
      refine r_cSN (Wd := 0) X (fun l D sz => w_X1_isIn l D sz h10) q414 q801 q104 q415 hy_X1_isIn rfl dX2_eraOf_30 rfl rfl (Nat.le_of_ble_eq_true rfl) ⟨Nat.le_of_ble_eq_true rfl, Nat.le_of_ble_eq_true rfl⟩ ⟨Nat.le_of_ble_eq_true rfl, Nat.le_of_ble_eq_true rfl⟩ ?_
      refine r_if_ne (tgt := 38) X dX2_eraOf_33 (by decide) h (fun c12 h => ?_) (fun c12 h => ?_)
      · refine r_null X dX2_eraOf_36 ?_
        cases h
        exact r_aret (q := none) X hr dX2_eraOf_37
      · refine r_iconst X dX2_eraOf_38 ?_
        refine r_istore X dX2_eraOf_39 (hL 4 (by decide)) (lv' := [(4, iv (0)), (0, .ref (a0)), (1, iv (x1)), (2, iv (x2)), (3, iv (x3))]) rfl ?_
        have L41 : ∀ s : Int, lp (fun s => f_X2_eraOf_b41 (σ) (a0) (x1) (x2) (x3) s) s = some w → V Γ (σ) 0 0 41 [(0, .ref (a0)), (1, iv (x1)), (2, iv (x2)), (3, iv (x3)), (4, iv (s))] [] := by
          refine lp_rule (P := fun s : Int => V Γ (σ) 0 0 41 [(0, .ref (a0)), (1, iv (x1)), (2, iv (x2)), (3, iv (x3)), (4, iv (s))] []) ?_
          intro s z1 h ihb1 ihe1
          obtain ⟨v4_1, es⟩ : ∃ q, q = s := ⟨s, rfl⟩
          subst es
          have h : f_X2_eraOf_b41 (σ) (a0) (x1) (x2) (x3) v4_1 = some z1 := h
          unfold f_X2_eraOf_b41 at h
          show V Γ σ 0 0 41 [(0, .ref (a0)), (1, iv (x1)), (2, iv (x2)), (3, iv (x3)), (4, iv (v4_1))] []
          refine r_iload X 4 dX2_eraOf_41 rfl ?_
          refine r_aload_n X 0 dX2_eraOf_43 rfl rfl ?_
          refine r_getI (kf := 1) X ho0.1 rfl (by decide) rfl (Or.inl q190) dX2_eraOf_44 ?_
          refine r_icmp_ge (tgt := 80) X dX2_eraOf_47 (by decide) h (fun c13 h => ?_) (fun c13 h => ?_)
          · refine r_aload_n X 0 dX2_eraOf_50 rfl rfl ?_
            refine r_getA (kf := 0) X ho0.1 rfl (by decide) (by decide) (Or.inl q189) dX2_eraOf_51 ?_
            refine r_iload X 4 dX2_eraOf_54 rfl ?_
            refine r_aald X ho0.1 (ho0.2 0 (by decide)) rfl rfl (by decide) rfl (by decide) dX2_eraOf_56 h (fun b14 h => ?_)
            refine r_iload_n X 1 dX2_eraOf_57 rfl rfl ?_
            refine r_iload_n X 2 dX2_eraOf_58 rfl rfl ?_
            refine r_iload_n X 3 dX2_eraOf_59 rfl rfl ?_
            obtain ⟨ho16, h⟩ := cO_some h
            obtain ⟨r17, h15, h⟩ := bd_some h
            refine r_cV (Wd := 0) X (fun l D sz => w_X3_has l D sz h15) ho16.1 rfl q805 q806 q804 q106 q807 hy_X3_has rfl dX2_eraOf_60 rfl rfl (Nat.le_of_ble_eq_true rfl) ⟨Nat.le_of_ble_eq_true rfl, Nat.le_of_ble_eq_true rfl⟩ ⟨Nat.le_of_ble_eq_true rfl, Nat.le_of_ble_eq_true rfl⟩ ?_
            refine r_if_eq (tgt := 74) X dX2_eraOf_63 (by decide) h (fun c18 h => ?_) (fun c18 h => ?_)
            · refine r_iinc X 4 dX2_eraOf_74 rfl (hL 4 (by decide)) (lv' := [(4, iv ((v4_1 + 1))), (0, .ref (a0)), (1, iv (x1)), (2, iv (x2)), (3, iv (x3))]) rfl ?_
              refine r_goto (tgt := 41) X dX2_eraOf_77 (by decide) ?_
              exact V.sub [1, 2, 3, 4, 0] rfl (ihb1 _ (Option.some.inj h).symm)
            · have h := ex_some h ihe1
              refine r_aload_n X 0 dX2_eraOf_66 rfl rfl ?_
              refine r_getA (kf := 0) X ho0.1 rfl (by decide) (by decide) (Or.inl q189) dX2_eraOf_67 ?_
              refine r_iload X 4 dX2_eraOf_70 rfl ?_
              refine r_aald X ho0.1 (ho0.2 0 (by decide)) rfl rfl (by decide) rfl (by decide) dX2_eraOf_72 h (fun b19 h => ?_)
              cases h
              exact r_aret (q := some _) X hr dX2_eraOf_73
          · have h := ex_some h ihe1
            refine r_null X dX2_eraOf_80 ?_
            cases h
            exact r_aret (q := none) X hr dX2_eraOf_81
        exact V.sub [1, 2, 3, 4, 0] rfl (L41 (0) h)
theorem hy_X2_has : yX2_has.cls ≠ "java/lang/invoke/MethodHandle" ∧ yX2_has.cls ≠ "java/lang/invoke/VarHandle" ∧ (parseMethodDescriptor yX2_has.desc).map (fun d => d.parameters.length) = some 3 := by decide +kernel
set_option maxHeartbeats 4000000 in
theorem w_X2_has (l : Launch) (D : DD) (sz : Nat) {σ : St} {a0 : Nat} {x1 : Int} {x2 : Int} {x3 : Int} {w : Int} (h : f_X2_has σ a0 x1 x2 x3 = some w) : Mt l yX2_has cX2_has 4 (some FieldType.boolean) ({ frames := 6, cells := 0, slots := 0, locals := 92 } : Room) D sz σ [.ref a0, iv (x1), iv (x2), iv (x3)] (.returned (some (iv w))) (σ) 0 0 := by
  refine Mt.of (by decide +kernel) (Nat.le_of_ble_eq_true rfl) ?_
  intro Γ X hr hnl hini hnoh
  have X : Cx Γ cX2_has "DayBoy$Almanac" _ := X
  have hL : ∀ i, i < 4 → i < nLc Γ := fun i q => by rw [hnl]; exact q
  show V Γ σ 0 0 0 [(0, .ref (a0)), (1, iv (x1)), (2, iv (x2)), (3, iv (x3))] []
  unfold f_X2_has at h
  obtain ⟨ho0, h⟩ := cO_some h
  refine r_aload_n X 0 dX2_has_0 rfl rfl ?_
  refine r_iload_n X 1 dX2_has_1 rfl rfl ?_
  refine r_iload_n X 2 dX2_has_2 rfl rfl ?_
  refine r_iload_n X 3 dX2_has_3 rfl rfl ?_
  obtain ⟨r2, h1, h⟩ := bd_some h
  refine r_cV (Wd := 0) X (fun l D sz => w_X2_eraOf l D sz h1) ho0.1 rfl q798 qs25 q796 q105 q799 hy_X2_eraOf rfl dX2_has_4 rfl rfl (Nat.le_of_ble_eq_true rfl) ⟨Nat.le_of_ble_eq_true rfl, Nat.le_of_ble_eq_true rfl⟩ ⟨Nat.le_of_ble_eq_true rfl, Nat.le_of_ble_eq_true rfl⟩ ?_
  refine r_ifnull (tgt := 14) X dX2_has_7 (by decide) h (fun c4 h => ?_) (fun b3 c4 h => ?_)
  · refine r_iconst X dX2_has_14 ?_
    cases h
    exact r_zret X hr (by decide) dX2_has_15
  · refine r_iconst X dX2_has_10 ?_
    refine r_goto (tgt := 15) X dX2_has_11 (by decide) ?_
    cases h
    exact r_zret X hr (by decide) dX2_has_15
theorem hy_X1_isDate : yX1_isDate.cls ≠ "java/lang/invoke/MethodHandle" ∧ yX1_isDate.cls ≠ "java/lang/invoke/VarHandle" ∧ (parseMethodDescriptor yX1_isDate.desc).map (fun d => d.parameters.length) = some 4 := by decide +kernel
set_option maxHeartbeats 4000000 in
theorem w_X1_isDate (l : Launch) (D : DD) (sz : Nat) {σ : St} {a0 : Nat} {x1 : Int} {x2 : Int} {x3 : Int} {x4 : Int} {w : Int} (h : f_X1_isDate σ a0 x1 x2 x3 x4 = some w) : Mt l yX1_isDate cX1_isDate 5 (some FieldType.boolean) ({ frames := 7, cells := 0, slots := 0, locals := 107 } : Room) D sz σ [.ref a0, iv (x1), iv (x2), iv (x3), iv (x4)] (.returned (some (iv w))) (σ) 0 0 := by
  refine Mt.of (by decide +kernel) (Nat.le_of_ble_eq_true rfl) ?_
  intro Γ X hr hnl hini hnoh
  have X : Cx Γ cX1_isDate "DayBoy" _ := X
  have hL : ∀ i, i < 5 → i < nLc Γ := fun i q => by rw [hnl]; exact q
  show V Γ σ 0 0 0 [(0, .ref (a0)), (1, iv (x1)), (2, iv (x2)), (3, iv (x3)), (4, iv (x4))] []
  unfold f_X1_isDate at h
  obtain ⟨ho0, h⟩ := cO_some h
  refine r_aload_n X 0 dX1_isDate_0 rfl rfl ?_
  refine r_iload_n X 1 dX1_isDate_1 rfl rfl ?_
  obtain ⟨r2, h1, h⟩ := bd_some h
  refine r_cV (Wd := 0) X (fun l D sz => w_X1_isCalendar l D sz h1) ho0.1 rfl q751 qs22 q749 q104 q752 hy_X1_isCalendar rfl dX1_isDate_2 rfl rfl (Nat.le_of_ble_eq_true rfl) ⟨Nat.le_of_ble_eq_true rfl, Nat.le_of_ble_eq_true rfl⟩ ⟨Nat.le_of_ble_eq_true rfl, Nat.le_of_ble_eq_true rfl⟩ ?_
  refine r_if_eq (tgt := 28) X dX1_isDate_5 (by decide) h (fun c3 h => ?_) (fun c3 h => ?_)
  · refine r_iconst X dX1_isDate_28 ?_
    cases h
    exact r_zret X hr (by decide) dX1_isDate_29
  · refine r_aload_n X 0 dX1_isDate_8 rfl rfl ?_
    refine r_getA (kf := 4) X ho0.1 rfl (by decide) (by decide) (Or.inl q310) dX1_isDate_9 ?_
    refine r_iload_n X 1 dX1_isDate_12 rfl rfl ?_
    refine r_aald X ho0.1 (ho0.2 4 (by decide)) rfl rfl (by decide) rfl (by decide) dX1_isDate_13 h (fun b5 h => ?_)
    refine r_iload_n X 2 dX1_isDate_14 rfl rfl ?_
    refine r_iload_n X 3 dX1_isDate_15 rfl rfl ?_
    refine r_iload X 4 dX1_isDate_16 rfl ?_
    obtain ⟨ho7, h⟩ := cO_some h
    obtain ⟨r8, h6, h⟩ := bd_some h
    refine r_cV (Wd := 0) X (fun l D sz => w_X2_has l D sz h6) ho7.1 rfl q793 q794 q792 q105 q795 hy_X2_has rfl dX1_isDate_18 rfl rfl (Nat.le_of_ble_eq_true rfl) ⟨Nat.le_of_ble_eq_true rfl, Nat.le_of_ble_eq_true rfl⟩ ⟨Nat.le_of_ble_eq_true rfl, Nat.le_of_ble_eq_true rfl⟩ ?_
    refine r_if_eq (tgt := 28) X dX1_isDate_21 (by decide) h (fun c9 h => ?_) (fun c9 h => ?_)
    · refine r_iconst X dX1_isDate_28 ?_
      cases h
      exact r_zret X hr (by decide) dX1_isDate_29
    · refine r_iconst X dX1_isDate_24 ?_
      refine r_goto (tgt := 29) X dX1_isDate_25 (by decide) ?_
      cases h
      exact r_zret X hr (by decide) dX1_isDate_29
theorem hy_X3_dayOf : yX3_dayOf.cls ≠ "java/lang/invoke/MethodHandle" ∧ yX3_dayOf.cls ≠ "java/lang/invoke/VarHandle" ∧ (parseMethodDescriptor yX3_dayOf.desc).map (fun d => d.parameters.length) = some 3 := by decide +kernel
set_option maxHeartbeats 4000000 in
theorem w_X3_dayOf (l : Launch) (D : DD) (sz : Nat) {σ : St} {a0 : Nat} {x1 : Int} {x2 : Int} {x3 : Int} {w : Int} (h : f_X3_dayOf σ a0 x1 x2 x3 = some w) : Mt l yX3_dayOf cX3_dayOf 4 (some FieldType.int) ({ frames := 4, cells := 0, slots := 0, locals := 62 } : Room) D sz σ [.ref a0, iv (x1), iv (x2), iv (x3)] (.returned (some (iv w))) (σ) 0 0 := by
  refine Mt.of (by decide +kernel) (Nat.le_of_ble_eq_true rfl) ?_
  intro Γ X hr hnl hini hnoh
  have X : Cx Γ cX3_dayOf "DayBoy$Era" _ := X
  have hL : ∀ i, i < 4 → i < nLc Γ := fun i q => by rw [hnl]; exact q
  show V Γ σ 0 0 0 [(0, .ref (a0)), (1, iv (x1)), (2, iv (x2)), (3, iv (x3))] []
  unfold f_X3_dayOf at h
  obtain ⟨ho0, h⟩ := cO_some h
  refine r_aload_n X 0 dX3_dayOf_0 rfl rfl ?_
  refine r_getI (kf := 1) X ho0.1 rfl (by decide) rfl (Or.inl q175) dX3_dayOf_1 ?_
  refine r_aload_n X 0 dX3_dayOf_4 rfl rfl ?_
  refine r_getP (kf := 0) X ho0.1 rfl (by decide) rfl (Or.inl q172) dX3_dayOf_5 h (fun b1 h => ?_)
  refine r_iload_n X 1 dX3_dayOf_8 rfl rfl ?_
  refine r_iload_n X 2 dX3_dayOf_9 rfl rfl ?_
  refine r_iload_n X 3 dX3_dayOf_10 rfl rfl ?_
  obtain ⟨ho3, h⟩ := cO_some h
  obtain ⟨r4, h2, h⟩ := bd_some h
  refine r_cV (Wd := 1) X (fun l D sz => w_X4_place l D sz h2) ho3.1 rfl q572 q573 q591 q107 q574 hy_X4_place rfl dX3_dayOf_11 rfl rfl (Nat.le_of_ble_eq_true rfl) ⟨Nat.le_of_ble_eq_true rfl, Nat.le_of_ble_eq_true rfl⟩ ⟨Nat.le_of_ble_eq_true rfl, Nat.le_of_ble_eq_true rfl⟩ ?_
  refine r_iadd X dX3_dayOf_14 ?_
  refine r_aload_n X 0 dX3_dayOf_15 rfl rfl ?_
  refine r_getI (kf := 2) X ho0.1 rfl (by decide) rfl (Or.inl q176) dX3_dayOf_16 ?_
  refine r_isub X dX3_dayOf_19 ?_
  cases h
  exact r_iret X hr dX3_dayOf_20
theorem hy_X2_day : yX2_day.cls ≠ "java/lang/invoke/MethodHandle" ∧ yX2_day.cls ≠ "java/lang/invoke/VarHandle" ∧ (parseMethodDescriptor yX2_day.desc).map (fun d => d.parameters.length) = some 3 := by decide +kernel
set_option maxHeartbeats 4000000 in
theorem w_X2_day (l : Launch) (D : DD) (sz : Nat) {σ : St} {a0 : Nat} {x1 : Int} {x2 : Int} {x3 : Int} {w : Int} (h : f_X2_day σ a0 x1 x2 x3 = some w) : Mt l yX2_day cX2_day 4 (some FieldType.int) ({ frames := 6, cells := 0, slots := 0, locals := 92 } : Room) D sz σ [.ref a0, iv (x1), iv (x2), iv (x3)] (.returned (some (iv w))) (σ) 0 0 := by
  refine Mt.of (by decide +kernel) (Nat.le_of_ble_eq_true rfl) ?_
  intro Γ X hr hnl hini hnoh
  have X : Cx Γ cX2_day "DayBoy$Almanac" _ := X
  have hL : ∀ i, i < 4 → i < nLc Γ := fun i q => by rw [hnl]; exact q
  show V Γ σ 0 0 0 [(0, .ref (a0)), (1, iv (x1)), (2, iv (x2)), (3, iv (x3))] []
  unfold f_X2_day at h
  obtain ⟨ho0, h⟩ := cO_some h
  refine r_aload_n X 0 dX2_day_0 rfl rfl ?_
  refine r_iload_n X 1 dX2_day_1 rfl rfl ?_
  refine r_iload_n X 2 dX2_day_2 rfl rfl ?_
  refine r_iload_n X 3 dX2_day_3 rfl rfl ?_
  obtain ⟨r2, h1, h⟩ := bd_some h
  refine r_cV (Wd := 0) X (fun l D sz => w_X2_eraOf l D sz h1) ho0.1 rfl q798 qs25 q796 q105 q799 hy_X2_eraOf rfl dX2_day_4 rfl rfl (Nat.le_of_ble_eq_true rfl) ⟨Nat.le_of_ble_eq_true rfl, Nat.le_of_ble_eq_true rfl⟩ ⟨Nat.le_of_ble_eq_true rfl, Nat.le_of_ble_eq_true rfl⟩ ?_
  refine r_iload_n X 1 dX2_day_7 rfl rfl ?_
  refine r_iload_n X 2 dX2_day_8 rfl rfl ?_
  refine r_iload_n X 3 dX2_day_9 rfl rfl ?_
  obtain ⟨b3, e4, h⟩ := nn_some h
  subst e4
  obtain ⟨ho6, h⟩ := cO_some h
  obtain ⟨r7, h5, h⟩ := bd_some h
  refine r_cV (Wd := 0) X (fun l D sz => w_X3_dayOf l D sz h5) ho6.1 rfl q588 q589 q814 q106 q590 hy_X3_dayOf rfl dX2_day_10 rfl rfl (Nat.le_of_ble_eq_true rfl) ⟨Nat.le_of_ble_eq_true rfl, Nat.le_of_ble_eq_true rfl⟩ ⟨Nat.le_of_ble_eq_true rfl, Nat.le_of_ble_eq_true rfl⟩ ?_
  cases h
  exact r_iret X hr dX2_day_13
theorem hy_X1_turned : yX1_turned.cls ≠ "java/lang/invoke/MethodHandle" ∧ yX1_turned.cls ≠ "java/lang/invoke/VarHandle" ∧ (parseMethodDescriptor yX1_turned.desc).map (fun d => d.parameters.length) = some 6 := by decide +kernel
set_option maxHeartbeats 4000000 in
theorem w_X1_turned (l : Launch) (D : DD) (sz : Nat) {σ : St} {a0 : Nat} {x1 : Int} {x2 : Int} {x3 : Int} {x4 : Int} {x5 : Int} {x6 : Int} {w : Int} (h : f_X1_turned σ a0 x1 x2 x3 x4 x5 x6 = some w) : Mt l yX1_turned cX1_turned 7 (some FieldType.int) ({ frames := 8, cells := 0, slots := 0, locals := 123 } : Room) D sz σ [.ref a0, iv (x1), iv (x2), iv (x3), iv (x4), iv (x5), iv (x6)] (.returned (some (iv w))) (σ) 0 0 := by
  refine Mt.of (by decide +kernel) (Nat.le_of_ble_eq_true rfl) ?_
  intro Γ X hr hnl hini hnoh
  have X : Cx Γ cX1_turned "DayBoy" _ := X
  have hL : ∀ i, i < 7 → i < nLc Γ := fun i q => by rw [hnl]; exact q
  show V Γ σ 0 0 0 [(0, .ref (a0)), (1, iv (x1)), (2, iv (x2)), (3, iv (x3)), (4, iv (x4)), (5, iv (x5)), (6, iv (x6))] []
  unfold f_X1_turned at h
  obtain ⟨ho0, h⟩ := cO_some h
  refine r_aload_n X 0 dX1_turned_0 rfl rfl ?_
  refine r_iload_n X 1 dX1_turned_1 rfl rfl ?_
  refine r_iload_n X 2 dX1_turned_2 rfl rfl ?_
  refine r_iload_n X 3 dX1_turned_3 rfl rfl ?_
  refine r_iload X 4 dX1_turned_4 rfl ?_
  obtain ⟨r2, h1, h⟩ := bd_some h
  refine r_cV (Wd := 0) X (fun l D sz => w_X1_isDate l D sz h1) ho0.1 rfl q790 qs24 q788 q104 q791 hy_X1_isDate rfl dX1_turned_6 rfl rfl (Nat.le_of_ble_eq_true rfl) ⟨Nat.le_of_ble_eq_true rfl, Nat.le_of_ble_eq_true rfl⟩ ⟨Nat.le_of_ble_eq_true rfl, Nat.le_of_ble_eq_true rfl⟩ ?_
  refine r_if_eq (tgt := 62) X dX1_turned_9 (by decide) h (fun c3 h => ?_) (fun c3 h => ?_)
  · refine r_iconst X dX1_turned_62 ?_
    cases h
    exact r_iret X hr dX1_turned_63
  · refine r_aload_n X 0 dX1_turned_12 rfl rfl ?_
    refine r_iload X 5 dX1_turned_13 rfl ?_
    obtain ⟨r5, h4, h⟩ := bd_some h
    refine r_cV (Wd := 0) X (fun l D sz => w_X1_isCalendar l D sz h4) ho0.1 rfl q751 qs22 q749 q104 q752 hy_X1_isCalendar rfl dX1_turned_15 rfl rfl (Nat.le_of_ble_eq_true rfl) ⟨Nat.le_of_ble_eq_true rfl, Nat.le_of_ble_eq_true rfl⟩ ⟨Nat.le_of_ble_eq_true rfl, Nat.le_of_ble_eq_true rfl⟩ ?_
    refine r_if_eq (tgt := 62) X dX1_turned_18 (by decide) h (fun c6 h => ?_) (fun c6 h => ?_)
    · refine r_iconst X dX1_turned_62 ?_
      cases h
      exact r_iret X hr dX1_turned_63
    · refine r_iload X 6 dX1_turned_21 rfl ?_
      obtain ⟨c7, h⟩ := ck_some h
      refine r_i2l X dX1_turned_23 c7 ?_
      refine r_lconst (y := 0) X dX1_turned_24 rfl ?_
      refine r_ldc2 (z := 2) X q412 dX1_turned_25 rfl ?_
      obtain ⟨r9, h8, h⟩ := bd_some h
      refine r_cS (Wd := 0) X (fun l D sz => w_X1_isIn l D sz h8) q414 q413 q104 q415 hy_X1_isIn rfl dX1_turned_28 rfl rfl (Nat.le_of_ble_eq_true rfl) ⟨Nat.le_of_ble_eq_true rfl, Nat.le_of_ble_eq_true rfl⟩ ⟨Nat.le_of_ble_eq_true rfl, Nat.le_of_ble_eq_true rfl⟩ ?_
      refine r_if_eq (tgt := 62) X dX1_turned_31 (by decide) h (fun c10 h => ?_) (fun c10 h => ?_)
      · refine r_iconst X dX1_turned_62 ?_
        cases h
        exact r_iret X hr dX1_turned_63
      · refine r_aload_n X 0 dX1_turned_34 rfl rfl ?_
        refine r_getA (kf := 4) X ho0.1 rfl (by decide) (by decide) (Or.inl q310) dX1_turned_35 ?_
        refine r_iload X 5 dX1_turned_38 rfl ?_
        refine r_aald X ho0.1 (ho0.2 4 (by decide)) rfl rfl (by decide) rfl (by decide) dX1_turned_40 h (fun b11 h => ?_)
        refine r_aload_n X 0 dX1_turned_41 rfl rfl ?_
        refine r_getA (kf := 4) X ho0.1 rfl (by decide) (by decide) (Or.inl q310) dX1_turned_42 ?_
        refine r_iload_n X 1 dX1_turned_45 rfl rfl ?_
        refine r_aald X ho0.1 (ho0.2 4 (by decide)) rfl rfl (by decide) rfl (by decide) dX1_turned_46 h (fun b12 h => ?_)
        refine r_iload_n X 2 dX1_turned_47 rfl rfl ?_
        refine r_iload_n X 3 dX1_turned_48 rfl rfl ?_
        refine r_iload X 4 dX1_turned_49 rfl ?_
        obtain ⟨ho14, h⟩ := cO_some h
        obtain ⟨r15, h13, h⟩ := bd_some h
        refine r_cV (Wd := 1) X (fun l D sz => w_X2_day l D sz h13) ho14.1 rfl q811 q812 q810 q105 q813 hy_X2_day rfl dX1_turned_51 rfl rfl (Nat.le_of_ble_eq_true rfl) ⟨Nat.le_of_ble_eq_true rfl, Nat.le_of_ble_eq_true rfl⟩ ⟨Nat.le_of_ble_eq_true rfl, Nat.le_of_ble_eq_true rfl⟩ ?_
        refine r_iload X 6 dX1_turned_54 rfl ?_
        obtain ⟨ho17, h⟩ := cO_some h
        obtain ⟨r18, h16, h⟩ := bd_some h
        refine r_cV (Wd := 0) X (fun l D sz => w_X2_date l D sz h16) ho17.1 rfl q755 q756 q754 q105 q757 hy_X2_date rfl dX1_turned_56 rfl rfl (Nat.le_of_ble_eq_true rfl) ⟨Nat.le_of_ble_eq_true rfl, Nat.le_of_ble_eq_true rfl⟩ ⟨Nat.le_of_ble_eq_true rfl, Nat.le_of_ble_eq_true rfl⟩ ?_
        refine r_goto (tgt := 63) X dX1_turned_59 (by decide) ?_
        cases h
        exact r_iret X hr dX1_turned_63
theorem hy_X1_isYear : yX1_isYear.cls ≠ "java/lang/invoke/MethodHandle" ∧ yX1_isYear.cls ≠ "java/lang/invoke/VarHandle" ∧ (parseMethodDescriptor yX1_isYear.desc).map (fun d => d.parameters.length) = some 1 := by decide +kernel
set_option maxHeartbeats 4000000 in
theorem w_X1_isYear (l : Launch) (D : DD) (sz : Nat) {σ : St} {x0 : Int} {w : Int} (h : f_X1_isYear σ x0 = some w) : Mt l yX1_isYear cX1_isYear 1 (some FieldType.boolean) ({ frames := 1, cells := 0, slots := 0, locals := 17 } : Room) D sz σ [iv (x0)] (.returned (some (iv w))) (σ) 0 0 := by
  refine Mt.of (by decide +kernel) (Nat.le_of_ble_eq_true rfl) ?_
  intro Γ X hr hnl hini hnoh
  have X : Cx Γ cX1_isYear "DayBoy" _ := X
  have hL : ∀ i, i < 1 → i < nLc Γ := fun i q => by rw [hnl]; exact q
  show V Γ σ 0 0 0 [(0, iv (x0))] []
  unfold f_X1_isYear at h
  refine r_iload_n X 0 dX1_isYear_0 rfl rfl ?_
  obtain ⟨c1, h⟩ := ck_some h
  refine r_i2l X dX1_isYear_1 c1 ?_
  refine r_lconst (y := 1) X dX1_isYear_2 rfl ?_
  refine r_ldc2 (z := 9999) X q822 dX1_isYear_3 rfl ?_
  obtain ⟨r3, h2, h⟩ := bd_some h
  refine r_cS (Wd := 0) X (fun l D sz => w_X1_isIn l D sz h2) q414 q413 q104 q415 hy_X1_isIn rfl dX1_isYear_6 rfl rfl (Nat.le_of_ble_eq_true rfl) ⟨Nat.le_of_ble_eq_true rfl, Nat.le_of_ble_eq_true rfl⟩ ⟨Nat.le_of_ble_eq_true rfl, Nat.le_of_ble_eq_true rfl⟩ ?_
  obtain ⟨c4, h⟩ := ck_some h
  cases h
  exact r_zret X hr (c4) dX1_isYear_9
theorem hy_X2_manyIn : yX2_manyIn.cls ≠ "java/lang/invoke/MethodHandle" ∧ yX2_manyIn.cls ≠ "java/lang/invoke/VarHandle" ∧ (parseMethodDescriptor yX2_manyIn.desc).map (fun d => d.parameters.length) = some 2 := by decide +kernel
set_option maxHeartbeats 4000000 in
theorem w_X2_manyIn (l : Launch) (D : DD) (sz : Nat) {σ : St} {a0 : Nat} {x1 : Int} {x2 : Int} {w : Int} (h : f_X2_manyIn σ a0 x1 x2 = some w) : Mt l yX2_manyIn cX2_manyIn 5 (some FieldType.int) ({ frames := 7, cells := 0, slots := 0, locals := 108 } : Room) D sz σ [.ref a0, iv (x1), iv (x2)] (.returned (some (iv w))) (σ) 0 0 := by
  refine Mt.of (by decide +kernel) (Nat.le_of_ble_eq_true rfl) ?_
  intro Γ X hr hnl hini hnoh
  have X : Cx Γ cX2_manyIn "DayBoy$Almanac" _ := X
  have hL : ∀ i, i < 5 → i < nLc Γ := fun i q => by rw [hnl]; exact q
  show V Γ σ 0 0 0 [(0, .ref (a0)), (1, iv (x1)), (2, iv (x2))] []
  unfold f_X2_manyIn at h
  obtain ⟨ho0, h⟩ := cO_some h
  refine r_iconst X dX2_manyIn_0 ?_
  refine r_istore_n X dX2_manyIn_1 rfl (hL 3 (by decide)) (lv' := [(3, iv (0)), (0, .ref (a0)), (1, iv (x1)), (2, iv (x2))]) rfl ?_
  refine r_iconst X dX2_manyIn_2 ?_
  refine r_istore X dX2_manyIn_3 (hL 4 (by decide)) (lv' := [(4, iv (1)), (3, iv (0)), (0, .ref (a0)), (1, iv (x1)), (2, iv (x2))]) rfl ?_
  have L5 : ∀ s : Int × Int, lp (fun s => f_X2_manyIn_b5 (σ) (a0) (x1) (x2) s.1 s.2) s = some w → V Γ (σ) 0 0 5 [(0, .ref (a0)), (1, iv (x1)), (2, iv (x2)), (3, iv (s.1)), (4, iv (s.2))] [] := by
    refine lp_rule (P := fun s : Int × Int => V Γ (σ) 0 0 5 [(0, .ref (a0)), (1, iv (x1)), (2, iv (x2)), (3, iv (s.1)), (4, iv (s.2))] []) ?_
    intro s z1 h ihb1 ihe1
    obtain ⟨v3_1, v4_1⟩ := s
    have h : f_X2_manyIn_b5 (σ) (a0) (x1) (x2) v3_1 v4_1 = some z1 := h
    unfold f_X2_manyIn_b5 at h
    show V Γ σ 0 0 5 [(0, .ref (a0)), (1, iv (x1)), (2, iv (x2)), (3, iv (v3_1)), (4, iv (v4_1))] []
    refine r_iload X 4 dX2_manyIn_5 rfl ?_
    refine r_bipush X dX2_manyIn_7 (by decide) ?_
    refine r_icmp_ge (tgt := 37) X dX2_manyIn_9 (by decide) h (fun c1 h => ?_) (fun c1 h => ?_)
    · refine r_iload_n X 3 dX2_manyIn_12 rfl rfl ?_
      refine r_aload_n X 0 dX2_manyIn_13 rfl rfl ?_
      refine r_iload_n X 1 dX2_manyIn_14 rfl rfl ?_
      refine r_iload_n X 2 dX2_manyIn_15 rfl rfl ?_
      refine r_iload X 4 dX2_manyIn_16 rfl ?_
      obtain ⟨r3, h2, h⟩ := bd_some h
      refine r_cV (Wd := 1) X (fun l D sz => w_X2_has l D sz h2) ho0.1 rfl q793 q794 q828 q105 q795 hy_X2_has rfl dX2_manyIn_18 rfl rfl (Nat.le_of_ble_eq_true rfl) ⟨Nat.le_of_ble_eq_true rfl, Nat.le_of_ble_eq_true rfl⟩ ⟨Nat.le_of_ble_eq_true rfl, Nat.le_of_ble_eq_true rfl⟩ ?_
      refine r_if_eq (tgt := 28) X dX2_manyIn_21 (by decide) h (fun c4 h => ?_) (fun c4 h => ?_)
      · refine r_iconst X dX2_manyIn_28 ?_
        refine r_iadd X dX2_manyIn_29 ?_
        refine r_istore_n X dX2_manyIn_30 rfl (hL 3 (by decide)) (lv' := [(3, iv ((v3_1 + 0))), (0, .ref (a0)), (1, iv (x1)), (2, iv (x2)), (4, iv (v4_1))]) rfl ?_
        refine r_iinc X 4 dX2_manyIn_31 rfl (hL 4 (by decide)) (lv' := [(4, iv ((v4_1 + 1))), (3, iv ((v3_1 + 0))), (0, .ref (a0)), (1, iv (x1)), (2, iv (x2))]) rfl ?_
        refine r_goto (tgt := 5) X dX2_manyIn_34 (by decide) ?_
        exact V.sub [2, 3, 4, 1, 0] rfl (ihb1 _ (Option.some.inj h).symm)
      · refine r_iconst X dX2_manyIn_24 ?_
        refine r_goto (tgt := 29) X dX2_manyIn_25 (by decide) ?_
        refine r_iadd X dX2_manyIn_29 ?_
        refine r_istore_n X dX2_manyIn_30 rfl (hL 3 (by decide)) (lv' := [(3, iv ((v3_1 + 1))), (0, .ref (a0)), (1, iv (x1)), (2, iv (x2)), (4, iv (v4_1))]) rfl ?_
        refine r_iinc X 4 dX2_manyIn_31 rfl (hL 4 (by decide)) (lv' := [(4, iv ((v4_1 + 1))), (3, iv ((v3_1 + 1))), (0, .ref (a0)), (1, iv (x1)), (2, iv (x2))]) rfl ?_
        refine r_goto (tgt := 5) X dX2_manyIn_34 (by decide) ?_
        exact V.sub [2, 3, 4, 1, 0] rfl (ihb1 _ (Option.some.inj h).symm)
    · have h := ex_some h ihe1
      refine r_iload_n X 3 dX2_manyIn_37 rfl rfl ?_
      cases h
      exact r_iret X hr dX2_manyIn_38
  exact V.sub [2, 3, 4, 1, 0] rfl (L5 (0, 1) h)
theorem hy_X1_many : yX1_many.cls ≠ "java/lang/invoke/MethodHandle" ∧ yX1_many.cls ≠ "java/lang/invoke/VarHandle" ∧ (parseMethodDescriptor yX1_many.desc).map (fun d => d.parameters.length) = some 3 := by decide +kernel
set_option maxHeartbeats 4000000 in
theorem w_X1_many (l : Launch) (D : DD) (sz : Nat) {σ : St} {a0 : Nat} {x1 : Int} {x2 : Int} {x3 : Int} {w : Int} (h : f_X1_many σ a0 x1 x2 x3 = some w) : Mt l yX1_many cX1_many 6 (some FieldType.int) ({ frames := 8, cells := 0, slots := 0, locals := 125 } : Room) D sz σ [.ref a0, iv (x1), iv (x2), iv (x3)] (.returned (some (iv w))) (σ) 0 0 := by
  refine Mt.of (by decide +kernel) (Nat.le_of_ble_eq_true rfl) ?_
  intro Γ X hr hnl hini hnoh
  have X : Cx Γ cX1_many "DayBoy" _ := X
  have hL : ∀ i, i < 6 → i < nLc Γ := fun i q => by rw [hnl]; exact q
  show V Γ σ 0 0 0 [(0, .ref (a0)), (1, iv (x1)), (2, iv (x2)), (3, iv (x3))] []
  unfold f_X1_many at h
  obtain ⟨ho0, h⟩ := cO_some h
  refine r_aload_n X 0 dX1_many_0 rfl rfl ?_
  refine r_iload_n X 1 dX1_many_1 rfl rfl ?_
  obtain ⟨r2, h1, h⟩ := bd_some h
  refine r_cV (Wd := 0) X (fun l D sz => w_X1_isCalendar l D sz h1) ho0.1 rfl q751 qs22 q749 q104 q752 hy_X1_isCalendar rfl dX1_many_2 rfl rfl (Nat.le_of_ble_eq_true rfl) ⟨Nat.le_of_ble_eq_true rfl, Nat.le_of_ble_eq_true rfl⟩ ⟨Nat.le_of_ble_eq_true rfl, Nat.le_of_ble_eq_true rfl⟩ ?_
  refine r_if_eq (tgt := 27) X dX1_many_5 (by decide) h (fun c3 h => ?_) (fun c3 h => ?_)
  · refine r_iconst X dX1_many_27 ?_
    cases h
    exact r_iret X hr dX1_many_28
  · refine r_iload_n X 2 dX1_many_8 rfl rfl ?_
    obtain ⟨r5, h4, h⟩ := bd_some h
    refine r_cS (Wd := 0) X (fun l D sz => w_X1_isYear l D sz h4) q820 q819 q104 q821 hy_X1_isYear rfl dX1_many_9 rfl rfl (Nat.le_of_ble_eq_true rfl) ⟨Nat.le_of_ble_eq_true rfl, Nat.le_of_ble_eq_true rfl⟩ ⟨Nat.le_of_ble_eq_true rfl, Nat.le_of_ble_eq_true rfl⟩ ?_
    refine r_if_eq (tgt := 27) X dX1_many_12 (by decide) h (fun c6 h => ?_) (fun c6 h => ?_)
    · refine r_iconst X dX1_many_27 ?_
      cases h
      exact r_iret X hr dX1_many_28
    · refine r_iload_n X 3 dX1_many_15 rfl rfl ?_
      obtain ⟨c7, h⟩ := ck_some h
      refine r_i2l X dX1_many_16 c7 ?_
      refine r_lconst (y := 0) X dX1_many_17 rfl ?_
      refine r_ldc2 (z := 12) X q823 dX1_many_18 rfl ?_
      obtain ⟨r9, h8, h⟩ := bd_some h
      refine r_cS (Wd := 0) X (fun l D sz => w_X1_isIn l D sz h8) q414 q413 q104 q415 hy_X1_isIn rfl dX1_many_21 rfl rfl (Nat.le_of_ble_eq_true rfl) ⟨Nat.le_of_ble_eq_true rfl, Nat.le_of_ble_eq_true rfl⟩ ⟨Nat.le_of_ble_eq_true rfl, Nat.le_of_ble_eq_true rfl⟩ ?_
      refine r_if_ne (tgt := 29) X dX1_many_24 (by decide) h (fun c10 h => ?_) (fun c10 h => ?_)
      · refine r_iconst X dX1_many_27 ?_
        cases h
        exact r_iret X hr dX1_many_28
      · refine r_iload_n X 3 dX1_many_29 rfl rfl ?_
        refine r_if_le (tgt := 45) X dX1_many_30 (by decide) h (fun c11 h => ?_) (fun c11 h => ?_)
        · refine r_aload_n X 0 dX1_many_33 rfl rfl ?_
          refine r_getA (kf := 4) X ho0.1 rfl (by decide) (by decide) (Or.inl q310) dX1_many_34 ?_
          refine r_iload_n X 1 dX1_many_37 rfl rfl ?_
          refine r_aald X ho0.1 (ho0.2 4 (by decide)) rfl rfl (by decide) rfl (by decide) dX1_many_38 h (fun b12 h => ?_)
          refine r_iload_n X 2 dX1_many_39 rfl rfl ?_
          refine r_iload_n X 3 dX1_many_40 rfl rfl ?_
          obtain ⟨ho14, h⟩ := cO_some h
          obtain ⟨r15, h13, h⟩ := bd_some h
          refine r_cV (Wd := 0) X (fun l D sz => w_X2_manyIn l D sz h13) ho14.1 rfl q825 q826 q824 q105 q827 hy_X2_manyIn rfl dX1_many_41 rfl rfl (Nat.le_of_ble_eq_true rfl) ⟨Nat.le_of_ble_eq_true rfl, Nat.le_of_ble_eq_true rfl⟩ ⟨Nat.le_of_ble_eq_true rfl, Nat.le_of_ble_eq_true rfl⟩ ?_
          cases h
          exact r_iret X hr dX1_many_44
        · refine r_iconst X dX1_many_45 ?_
          refine r_istore X dX1_many_46 (hL 4 (by decide)) (lv' := [(4, iv (0)), (0, .ref (a0)), (1, iv (x1)), (2, iv (x2)), (3, iv (x3))]) rfl ?_
          refine r_iconst X dX1_many_48 ?_
          refine r_istore X dX1_many_49 (hL 5 (by decide)) (lv' := [(5, iv (1)), (4, iv (0)), (0, .ref (a0)), (1, iv (x1)), (2, iv (x2)), (3, iv (x3))]) rfl ?_
          have L51 : ∀ s : Int × Int, lp (fun s => f_X1_many_b51 (σ) (a0) (x1) (x2) s.1 s.2) s = some w → V Γ (σ) 0 0 51 [(0, .ref (a0)), (1, iv (x1)), (2, iv (x2)), (4, iv (s.1)), (5, iv (s.2))] [] := by
            refine lp_rule (P := fun s : Int × Int => V Γ (σ) 0 0 51 [(0, .ref (a0)), (1, iv (x1)), (2, iv (x2)), (4, iv (s.1)), (5, iv (s.2))] []) ?_
            intro s z1 h ihb1 ihe1
            obtain ⟨v4_1, v5_1⟩ := s
            have h : f_X1_many_b51 (σ) (a0) (x1) (x2) v4_1 v5_1 = some z1 := h
            unfold f_X1_many_b51 at h
            show V Γ σ 0 0 51 [(0, .ref (a0)), (1, iv (x1)), (2, iv (x2)), (4, iv (v4_1)), (5, iv (v5_1))] []
            refine r_iload X 4 dX1_many_51 rfl ?_
            refine r_bipush X dX1_many_53 (by decide) ?_
            refine r_icmp_ge (tgt := 81) X dX1_many_55 (by decide) h (fun c16 h => ?_) (fun c16 h => ?_)
            · refine r_iload X 3 dX1_many_58 rfl ?_
              refine r_aload_n X 0 dX1_many_60 rfl rfl ?_
              refine r_getA (kf := 4) X ho0.1 rfl (by decide) (by decide) (Or.inl q310) dX1_many_61 ?_
              refine r_iload_n X 1 dX1_many_64 rfl rfl ?_
              refine r_aald X ho0.1 (ho0.2 4 (by decide)) rfl rfl (by decide) rfl (by decide) dX1_many_65 h (fun b17 h => ?_)
              refine r_iload_n X 2 dX1_many_66 rfl rfl ?_
              refine r_iload X 4 dX1_many_67 rfl ?_
              obtain ⟨ho19, h⟩ := cO_some h
              obtain ⟨r20, h18, h⟩ := bd_some h
              refine r_cV (Wd := 1) X (fun l D sz => w_X2_manyIn l D sz h18) ho19.1 rfl q825 q826 q824 q105 q827 hy_X2_manyIn rfl dX1_many_69 rfl rfl (Nat.le_of_ble_eq_true rfl) ⟨Nat.le_of_ble_eq_true rfl, Nat.le_of_ble_eq_true rfl⟩ ⟨Nat.le_of_ble_eq_true rfl, Nat.le_of_ble_eq_true rfl⟩ ?_
              refine r_iadd X dX1_many_72 ?_
              refine r_istore X dX1_many_73 (hL 4 (by decide)) (lv' := [(4, iv ((v4_1 + r20))), (0, .ref (a0)), (1, iv (x1)), (2, iv (x2)), (5, iv (v5_1))]) rfl ?_
              refine r_iinc X 4 dX1_many_75 rfl (hL 5 (by decide)) (lv' := [(5, iv ((v5_1 + 1))), (4, iv ((v4_1 + r20))), (0, .ref (a0)), (1, iv (x1)), (2, iv (x2))]) rfl ?_
              refine r_goto (tgt := 51) X dX1_many_78 (by decide) ?_
              exact V.sub [2, 3, 4, 1, 0] rfl (ihb1 _ (Option.some.inj h).symm)
            · have h := ex_some h ihe1
              refine r_iload X 3 dX1_many_81 rfl ?_
              cases h
              exact r_iret X hr dX1_many_83
          exact V.sub [2, 3, 4, 1, 0] rfl (L51 (0, 1) h)
theorem hy_X2_week : yX2_week.cls ≠ "java/lang/invoke/MethodHandle" ∧ yX2_week.cls ≠ "java/lang/invoke/VarHandle" ∧ (parseMethodDescriptor yX2_week.desc).map (fun d => d.parameters.length) = some 3 := by decide +kernel
set_option maxHeartbeats 4000000 in
theorem w_X2_week (l : Launch) (D : DD) (sz : Nat) {σ : St} {a0 : Nat} {x1 : Int} {x2 : Int} {x3 : Int} {w : Int} (h : f_X2_week σ a0 x1 x2 x3 = some w) : Mt l yX2_week cX2_week 4 (some FieldType.int) ({ frames := 7, cells := 0, slots := 0, locals := 107 } : Room) D sz σ [.ref a0, iv (x1), iv (x2), iv (x3)] (.returned (some (iv w))) (σ) 0 0 := by
  refine Mt.of (by decide +kernel) (Nat.le_of_ble_eq_true rfl) ?_
  intro Γ X hr hnl hini hnoh
  have X : Cx Γ cX2_week "DayBoy$Almanac" _ := X
  have hL : ∀ i, i < 4 → i < nLc Γ := fun i q => by rw [hnl]; exact q
  show V Γ σ 0 0 0 [(0, .ref (a0)), (1, iv (x1)), (2, iv (x2)), (3, iv (x3))] []
  unfold f_X2_week at h
  obtain ⟨ho0, h⟩ := cO_some h
  refine r_aload_n X 0 dX2_week_0 rfl rfl ?_
  refine r_iload_n X 1 dX2_week_1 rfl rfl ?_
  refine r_iload_n X 2 dX2_week_2 rfl rfl ?_
  refine r_iload_n X 3 dX2_week_3 rfl rfl ?_
  obtain ⟨r2, h1, h⟩ := bd_some h
  refine r_cV (Wd := 0) X (fun l D sz => w_X2_day l D sz h1) ho0.1 rfl q811 q812 q837 q105 q813 hy_X2_day rfl dX2_week_4 rfl rfl (Nat.le_of_ble_eq_true rfl) ⟨Nat.le_of_ble_eq_true rfl, Nat.le_of_ble_eq_true rfl⟩ ⟨Nat.le_of_ble_eq_true rfl, Nat.le_of_ble_eq_true rfl⟩ ?_
  refine r_bipush X dX2_week_7 (by decide) ?_
  obtain ⟨c3, h⟩ := ck_some h
  refine r_irem X dX2_week_9 c3 (by decide) (by decide) ?_
  cases h
  exact r_iret X hr dX2_week_10
theorem hy_X2_kind : yX2_kind.cls ≠ "java/lang/invoke/MethodHandle" ∧ yX2_kind.cls ≠ "java/lang/invoke/VarHandle" ∧ (parseMethodDescriptor yX2_kind.desc).map (fun d => d.parameters.length) = some 1 := by decide +kernel
set_option maxHeartbeats 4000000 in
theorem w_X2_kind (l : Launch) (D : DD) (sz : Nat) {σ : St} {a0 : Nat} {x1 : Int} {w : Int} (h : f_X2_kind σ a0 x1 = some w) : Mt l yX2_kind cX2_kind 3 (some FieldType.int) ({ frames := 8, cells := 0, slots := 0, locals := 123 } : Room) D sz σ [.ref a0, iv (x1)] (.returned (some (iv w))) (σ) 0 0 := by
  refine Mt.of (by decide +kernel) (Nat.le_of_ble_eq_true rfl) ?_
  intro Γ X hr hnl hini hnoh
  have X : Cx Γ cX2_kind "DayBoy$Almanac" _ := X
  have hL : ∀ i, i < 3 → i < nLc Γ := fun i q => by rw [hnl]; exact q
  show V Γ σ 0 0 0 [(0, .ref (a0)), (1, iv (x1))] []
  unfold f_X2_kind at h
  obtain ⟨ho0, h⟩ := cO_some h
  have J56 : ∀ (v2_j56 : Int), f_X2_kind_j56 (σ) (a0) (x1) v2_j56 = some w → V Γ σ 0 0 56 [(0, .ref (a0)), (1, iv (x1)), (2, iv (v2_j56))] [] := by
    intro v2_j56 h
    unfold f_X2_kind_j56 at h
    refine r_iconst X dX2_kind_56 ?_
    refine r_aload_n X 0 dX2_kind_57 rfl rfl ?_
    refine r_iload_n X 1 dX2_kind_58 rfl rfl ?_
    refine r_iconst X dX2_kind_59 ?_
    refine r_iconst X dX2_kind_60 ?_
    obtain ⟨r2, h1, h⟩ := bd_some h
    refine r_cV (Wd := 1) X (fun l D sz => w_X2_week l D sz h1) ho0.1 rfl q839 q840 q838 q105 q841 hy_X2_week rfl dX2_kind_61 rfl rfl (Nat.le_of_ble_eq_true rfl) ⟨Nat.le_of_ble_eq_true rfl, Nat.le_of_ble_eq_true rfl⟩ ⟨Nat.le_of_ble_eq_true rfl, Nat.le_of_ble_eq_true rfl⟩ ?_
    refine r_imul X dX2_kind_64 ?_
    refine r_iload_n X 2 dX2_kind_65 rfl rfl ?_
    refine r_iadd X dX2_kind_66 ?_
    refine r_sipush X dX2_kind_67 (by decide) ?_
    refine r_isub X dX2_kind_70 ?_
    refine r_goto (tgt := 75) X dX2_kind_71 (by decide) ?_
    cases h
    exact r_iret X hr dX2_kind_75
  refine r_aload_n X 0 dX2_kind_0 rfl rfl ?_
  refine r_iload_n X 1 dX2_kind_1 rfl rfl ?_
  refine r_iconst X dX2_kind_2 ?_
  refine r_iconst X dX2_kind_3 ?_
  obtain ⟨r4, h3, h⟩ := bd_some h
  refine r_cV (Wd := 0) X (fun l D sz => w_X2_has l D sz h3) ho0.1 rfl q793 q794 q828 q105 q795 hy_X2_has rfl dX2_kind_4 rfl rfl (Nat.le_of_ble_eq_true rfl) ⟨Nat.le_of_ble_eq_true rfl, Nat.le_of_ble_eq_true rfl⟩ ⟨Nat.le_of_ble_eq_true rfl, Nat.le_of_ble_eq_true rfl⟩ ?_
  refine r_if_eq (tgt := 22) X dX2_kind_7 (by decide) h (fun c5 h => ?_) (fun c5 h => ?_)
  · refine r_iconst X dX2_kind_22 ?_
    cases h
    exact r_iret X hr dX2_kind_23
  · refine r_aload_n X 0 dX2_kind_10 rfl rfl ?_
    refine r_iload_n X 1 dX2_kind_11 rfl rfl ?_
    refine r_bipush X dX2_kind_12 (by decide) ?_
    refine r_bipush X dX2_kind_14 (by decide) ?_
    obtain ⟨r7, h6, h⟩ := bd_some h
    refine r_cV (Wd := 0) X (fun l D sz => w_X2_has l D sz h6) ho0.1 rfl q793 q794 q828 q105 q795 hy_X2_has rfl dX2_kind_16 rfl rfl (Nat.le_of_ble_eq_true rfl) ⟨Nat.le_of_ble_eq_true rfl, Nat.le_of_ble_eq_true rfl⟩ ⟨Nat.le_of_ble_eq_true rfl, Nat.le_of_ble_eq_true rfl⟩ ?_
    refine r_if_ne (tgt := 24) X dX2_kind_19 (by decide) h (fun c8 h => ?_) (fun c8 h => ?_)
    · refine r_iconst X dX2_kind_22 ?_
      cases h
      exact r_iret X hr dX2_kind_23
    · refine r_aload_n X 0 dX2_kind_24 rfl rfl ?_
      refine r_iload_n X 1 dX2_kind_25 rfl rfl ?_
      refine r_bipush X dX2_kind_26 (by decide) ?_
      refine r_bipush X dX2_kind_28 (by decide) ?_
      obtain ⟨r10, h9, h⟩ := bd_some h
      refine r_cV (Wd := 0) X (fun l D sz => w_X2_day l D sz h9) ho0.1 rfl q811 q812 q837 q105 q813 hy_X2_day rfl dX2_kind_30 rfl rfl (Nat.le_of_ble_eq_true rfl) ⟨Nat.le_of_ble_eq_true rfl, Nat.le_of_ble_eq_true rfl⟩ ⟨Nat.le_of_ble_eq_true rfl, Nat.le_of_ble_eq_true rfl⟩ ?_
      refine r_aload_n X 0 dX2_kind_33 rfl rfl ?_
      refine r_iload_n X 1 dX2_kind_34 rfl rfl ?_
      refine r_iconst X dX2_kind_35 ?_
      refine r_iconst X dX2_kind_36 ?_
      obtain ⟨r12, h11, h⟩ := bd_some h
      refine r_cV (Wd := 1) X (fun l D sz => w_X2_day l D sz h11) ho0.1 rfl q811 q812 q837 q105 q813 hy_X2_day rfl dX2_kind_37 rfl rfl (Nat.le_of_ble_eq_true rfl) ⟨Nat.le_of_ble_eq_true rfl, Nat.le_of_ble_eq_true rfl⟩ ⟨Nat.le_of_ble_eq_true rfl, Nat.le_of_ble_eq_true rfl⟩ ?_
      refine r_isub X dX2_kind_40 ?_
      refine r_istore_n X dX2_kind_41 rfl (hL 2 (by decide)) (lv' := [(2, iv ((r10 - r12))), (0, .ref (a0)), (1, iv (x1))]) rfl ?_
      refine r_iload_n X 0 dX2_kind_42 rfl rfl ?_
      refine r_sipush X dX2_kind_43 (by decide) ?_
      refine r_icmp_eq (tgt := 56) X dX2_kind_46 (by decide) h (fun c13 h => ?_) (fun c13 h => ?_)
      · exact V.sub [1, 2, 0] rfl (J56 ((r10 - r12)) h)
      · refine r_iload_n X 0 dX2_kind_49 rfl rfl ?_
        refine r_sipush X dX2_kind_50 (by decide) ?_
        refine r_icmp_ne (tgt := 74) X dX2_kind_53 (by decide) h (fun c14 h => ?_) (fun c14 h => ?_)
        · exact V.sub [1, 2, 0] rfl (J56 ((r10 - r12)) h)
        · refine r_iconst X dX2_kind_74 ?_
          cases h
          exact r_iret X hr dX2_kind_75
theorem hy_X1_kind : yX1_kind.cls ≠ "java/lang/invoke/MethodHandle" ∧ yX1_kind.cls ≠ "java/lang/invoke/VarHandle" ∧ (parseMethodDescriptor yX1_kind.desc).map (fun d => d.parameters.length) = some 2 := by decide +kernel
set_option maxHeartbeats 4000000 in
theorem w_X1_kind (l : Launch) (D : DD) (sz : Nat) {σ : St} {a0 : Nat} {x1 : Int} {x2 : Int} {w : Int} (h : f_X1_kind σ a0 x1 x2 = some w) : Mt l yX1_kind cX1_kind 3 (some FieldType.int) ({ frames := 9, cells := 0, slots := 0, locals := 137 } : Room) D sz σ [.ref a0, iv (x1), iv (x2)] (.returned (some (iv w))) (σ) 0 0 := by
  refine Mt.of (by decide +kernel) (Nat.le_of_ble_eq_true rfl) ?_
  intro Γ X hr hnl hini hnoh
  have X : Cx Γ cX1_kind "DayBoy" _ := X
  have hL : ∀ i, i < 3 → i < nLc Γ := fun i q => by rw [hnl]; exact q
  show V Γ σ 0 0 0 [(0, .ref (a0)), (1, iv (x1)), (2, iv (x2))] []
  unfold f_X1_kind at h
  obtain ⟨ho0, h⟩ := cO_some h
  refine r_aload_n X 0 dX1_kind_0 rfl rfl ?_
  refine r_iload_n X 1 dX1_kind_1 rfl rfl ?_
  obtain ⟨r2, h1, h⟩ := bd_some h
  refine r_cV (Wd := 0) X (fun l D sz => w_X1_isCalendar l D sz h1) ho0.1 rfl q751 qs22 q749 q104 q752 hy_X1_isCalendar rfl dX1_kind_2 rfl rfl (Nat.le_of_ble_eq_true rfl) ⟨Nat.le_of_ble_eq_true rfl, Nat.le_of_ble_eq_true rfl⟩ ⟨Nat.le_of_ble_eq_true rfl, Nat.le_of_ble_eq_true rfl⟩ ?_
  refine r_if_eq (tgt := 28) X dX1_kind_5 (by decide) h (fun c3 h => ?_) (fun c3 h => ?_)
  · refine r_iconst X dX1_kind_28 ?_
    cases h
    exact r_iret X hr dX1_kind_29
  · refine r_iload_n X 2 dX1_kind_8 rfl rfl ?_
    obtain ⟨r5, h4, h⟩ := bd_some h
    refine r_cS (Wd := 0) X (fun l D sz => w_X1_isYear l D sz h4) q820 q819 q104 q821 hy_X1_isYear rfl dX1_kind_9 rfl rfl (Nat.le_of_ble_eq_true rfl) ⟨Nat.le_of_ble_eq_true rfl, Nat.le_of_ble_eq_true rfl⟩ ⟨Nat.le_of_ble_eq_true rfl, Nat.le_of_ble_eq_true rfl⟩ ?_
    refine r_if_eq (tgt := 28) X dX1_kind_12 (by decide) h (fun c6 h => ?_) (fun c6 h => ?_)
    · refine r_iconst X dX1_kind_28 ?_
      cases h
      exact r_iret X hr dX1_kind_29
    · refine r_aload_n X 0 dX1_kind_15 rfl rfl ?_
      refine r_getA (kf := 4) X ho0.1 rfl (by decide) (by decide) (Or.inl q310) dX1_kind_16 ?_
      refine r_iload_n X 1 dX1_kind_19 rfl rfl ?_
      refine r_aald X ho0.1 (ho0.2 4 (by decide)) rfl rfl (by decide) rfl (by decide) dX1_kind_20 h (fun b7 h => ?_)
      refine r_iload_n X 2 dX1_kind_21 rfl rfl ?_
      obtain ⟨ho9, h⟩ := cO_some h
      obtain ⟨r10, h8, h⟩ := bd_some h
      refine r_cV (Wd := 0) X (fun l D sz => w_X2_kind l D sz h8) ho9.1 rfl q834 q835 q833 q105 q836 hy_X2_kind rfl dX1_kind_22 rfl rfl (Nat.le_of_ble_eq_true rfl) ⟨Nat.le_of_ble_eq_true rfl, Nat.le_of_ble_eq_true rfl⟩ ⟨Nat.le_of_ble_eq_true rfl, Nat.le_of_ble_eq_true rfl⟩ ?_
      refine r_goto (tgt := 29) X dX1_kind_25 (by decide) ?_
      cases h
      exact r_iret X hr dX1_kind_29
theorem hy_X1_isHead : yX1_isHead.cls ≠ "java/lang/invoke/MethodHandle" ∧ yX1_isHead.cls ≠ "java/lang/invoke/VarHandle" ∧ (parseMethodDescriptor yX1_isHead.desc).map (fun d => d.parameters.length) = some 1 := by decide +kernel
set_option maxHeartbeats 4000000 in
theorem w_X1_isHead (l : Launch) (D : DD) (sz : Nat) {σ : St} {a0 : Nat} {x1 : Int} {w : Int} (h : f_X1_isHead σ a0 x1 = some w) : Mt l yX1_isHead cX1_isHead 2 (some FieldType.boolean) ({ frames := 0, cells := 0, slots := 0, locals := 0 } : Room) D sz σ [.ref a0, iv (x1)] (.returned (some (iv w))) (σ) 0 0 := by
  refine Mt.of (by decide +kernel) (Nat.le_of_ble_eq_true rfl) ?_
  intro Γ X hr hnl hini hnoh
  have X : Cx Γ cX1_isHead "DayBoy" _ := X
  have hL : ∀ i, i < 2 → i < nLc Γ := fun i q => by rw [hnl]; exact q
  show V Γ σ 0 0 0 [(0, .ref (a0)), (1, iv (x1))] []
  unfold f_X1_isHead at h
  obtain ⟨ho0, h⟩ := cO_some h
  refine r_iload_n X 1 dX1_isHead_0 rfl rfl ?_
  refine r_if_lt (tgt := 16) X dX1_isHead_1 (by decide) h (fun c1 h => ?_) (fun c1 h => ?_)
  · refine r_iconst X dX1_isHead_16 ?_
    cases h
    exact r_zret X hr (by decide) dX1_isHead_17
  · refine r_iload_n X 1 dX1_isHead_4 rfl rfl ?_
    refine r_aload_n X 0 dX1_isHead_5 rfl rfl ?_
    refine r_getI (kf := 7) X ho0.1 rfl (by decide) rfl (Or.inl q313) dX1_isHead_6 ?_
    refine r_icmp_ge (tgt := 16) X dX1_isHead_9 (by decide) h (fun c3 h => ?_) (fun c3 h => ?_)
    · refine r_iconst X dX1_isHead_12 ?_
      refine r_goto (tgt := 17) X dX1_isHead_13 (by decide) ?_
      cases h
      exact r_zret X hr (by decide) dX1_isHead_17
    · refine r_iconst X dX1_isHead_16 ?_
      cases h
      exact r_zret X hr (by decide) dX1_isHead_17
theorem hy_X5_hasRows : yX5_hasRows.cls ≠ "java/lang/invoke/MethodHandle" ∧ yX5_hasRows.cls ≠ "java/lang/invoke/VarHandle" ∧ (parseMethodDescriptor yX5_hasRows.desc).map (fun d => d.parameters.length) = some 2 := by decide +kernel
set_option maxHeartbeats 4000000 in
theorem w_X5_hasRows (l : Launch) (D : DD) (sz : Nat) {σ : St} {a0 : Nat} {x1 : Int} {x2 : Int} {w : Int} (h : f_X5_hasRows σ a0 x1 x2 = some w) : Mt l yX5_hasRows cX5_hasRows 3 (some FieldType.boolean) ({ frames := 0, cells := 0, slots := 0, locals := 0 } : Room) D sz σ [.ref a0, iv (x1), iv (x2)] (.returned (some (iv w))) (σ) 0 0 := by
  refine Mt.of (by decide +kernel) (Nat.le_of_ble_eq_true rfl) ?_
  intro Γ X hr hnl hini hnoh
  have X : Cx Γ cX5_hasRows "DayBoy$Head" _ := X
  have hL : ∀ i, i < 3 → i < nLc Γ := fun i q => by rw [hnl]; exact q
  show V Γ σ 0 0 0 [(0, .ref (a0)), (1, iv (x1)), (2, iv (x2))] []
  unfold f_X5_hasRows at h
  obtain ⟨ho0, h⟩ := cO_some h
  refine r_aload_n X 0 dX5_hasRows_0 rfl rfl ?_
  refine r_getA (kf := 9) X ho0.1 rfl (by decide) (by decide) (Or.inl q228) dX5_hasRows_1 ?_
  refine r_iload_n X 1 dX5_hasRows_4 rfl rfl ?_
  refine r_lald X ho0.1 (ho0.2 9 (by decide)) rfl rfl rfl (by decide) dX5_hasRows_5 h (fun h => ?_)
  refine r_ldc2 (z := 1000000000000) X q730 dX5_hasRows_6 rfl ?_
  refine r_lcmp_ge (tgt := 30) X dX5_hasRows_9 dX5_hasRows_10 (by decide) h (fun c1 h => ?_) (fun c1 h => ?_)
  · refine r_aload_n X 0 dX5_hasRows_13 rfl rfl ?_
    refine r_getA (kf := 10) X ho0.1 rfl (by decide) (by decide) (Or.inl q230) dX5_hasRows_14 ?_
    refine r_iload_n X 2 dX5_hasRows_17 rfl rfl ?_
    refine r_lald X ho0.1 (ho0.2 10 (by decide)) rfl rfl rfl (by decide) dX5_hasRows_18 h (fun h => ?_)
    refine r_ldc2 (z := 1000000000000) X q730 dX5_hasRows_19 rfl ?_
    refine r_lcmp_ge (tgt := 30) X dX5_hasRows_22 dX5_hasRows_23 (by decide) h (fun c2 h => ?_) (fun c2 h => ?_)
    · refine r_iconst X dX5_hasRows_26 ?_
      refine r_goto (tgt := 31) X dX5_hasRows_27 (by decide) ?_
      cases h
      exact r_zret X hr (by decide) dX5_hasRows_31
    · refine r_iconst X dX5_hasRows_30 ?_
      cases h
      exact r_zret X hr (by decide) dX5_hasRows_31
  · refine r_iconst X dX5_hasRows_30 ?_
    cases h
    exact r_zret X hr (by decide) dX5_hasRows_31
theorem hy_X5_better : yX5_better.cls ≠ "java/lang/invoke/MethodHandle" ∧ yX5_better.cls ≠ "java/lang/invoke/VarHandle" ∧ (parseMethodDescriptor yX5_better.desc).map (fun d => d.parameters.length) = some 3 := by decide +kernel
set_option maxHeartbeats 4000000 in
theorem w_X5_better (l : Launch) (D : DD) (sz : Nat) {σ : St} {a0 : Nat} {x1 : Int} {x2 : Int} {y3 : Int} {w : Int} (h : f_X5_better σ a0 x1 x2 y3 = some w) : Mt l yX5_better cX5_better 5 (some FieldType.int) ({ frames := 1, cells := 0, slots := 0, locals := 17 } : Room) D sz σ [.ref a0, iv (x1), iv (x2), jv (y3)] (.returned (some (iv w))) (σ) 0 0 := by
  refine Mt.of (by decide +kernel) (Nat.le_of_ble_eq_true rfl) ?_
  intro Γ X hr hnl hini hnoh
  have X : Cx Γ cX5_better "DayBoy$Head" _ := X
  have hL : ∀ i, i < 5 → i < nLc Γ := fun i q => by rw [hnl]; exact q
  show V Γ σ 0 0 0 [(0, .ref (a0)), (1, iv (x1)), (2, iv (x2)), (3, jv (y3))] []
  unfold f_X5_better at h
  obtain ⟨ho0, h⟩ := cO_some h
  refine r_iload_n X 2 dX5_better_0 rfl rfl ?_
  obtain ⟨c1, h⟩ := ck_some h
  refine r_i2l X dX5_better_1 c1 ?_
  refine r_lconst (y := 1) X dX5_better_2 rfl ?_
  refine r_ldc2 (z := 9999) X q735 dX5_better_3 rfl ?_
  obtain ⟨r3, h2, h⟩ := bd_some h
  refine r_cSN (Wd := 0) X (fun l D sz => w_X1_isIn l D sz h2) q414 q736 q104 q415 hy_X1_isIn rfl dX5_better_6 rfl rfl (Nat.le_of_ble_eq_true rfl) ⟨Nat.le_of_ble_eq_true rfl, Nat.le_of_ble_eq_true rfl⟩ ⟨Nat.le_of_ble_eq_true rfl, Nat.le_of_ble_eq_true rfl⟩ ?_
  refine r_if_eq (tgt := 37) X dX5_better_9 (by decide) h (fun c4 h => ?_) (fun c4 h => ?_)
  · refine r_iload_n X 1 dX5_better_37 rfl rfl ?_
    cases h
    exact r_iret X hr dX5_better_38
  · refine r_aload_n X 0 dX5_better_12 rfl rfl ?_
    refine r_getA (kf := 9) X ho0.1 rfl (by decide) (by decide) (Or.inl q228) dX5_better_13 ?_
    refine r_iload_n X 2 dX5_better_16 rfl rfl ?_
    refine r_lald X ho0.1 (ho0.2 9 (by decide)) rfl rfl rfl (by decide) dX5_better_17 h (fun h => ?_)
    refine r_lload_n X 3 dX5_better_18 rfl rfl ?_
    refine r_lcmp_ne (tgt := 37) X dX5_better_19 dX5_better_20 (by decide) h (fun c5 h => ?_) (fun c5 h => ?_)
    · refine r_iload_n X 1 dX5_better_23 rfl rfl ?_
      refine r_iconst X dX5_better_24 ?_
      refine r_icmp_eq (tgt := 33) X dX5_better_25 (by decide) h (fun c6 h => ?_) (fun c6 h => ?_)
      · refine r_iload_n X 2 dX5_better_33 rfl rfl ?_
        refine r_goto (tgt := 38) X dX5_better_34 (by decide) ?_
        cases h
        exact r_iret X hr dX5_better_38
      · refine r_iload_n X 2 dX5_better_28 rfl rfl ?_
        refine r_iload_n X 1 dX5_better_29 rfl rfl ?_
        refine r_icmp_ge (tgt := 37) X dX5_better_30 (by decide) h (fun c7 h => ?_) (fun c7 h => ?_)
        · refine r_iload_n X 2 dX5_better_33 rfl rfl ?_
          refine r_goto (tgt := 38) X dX5_better_34 (by decide) ?_
          cases h
          exact r_iret X hr dX5_better_38
        · refine r_iload_n X 1 dX5_better_37 rfl rfl ?_
          cases h
          exact r_iret X hr dX5_better_38
    · refine r_iload_n X 1 dX5_better_37 rfl rfl ?_
      cases h
      exact r_iret X hr dX5_better_38
