/-! walks (printed by gen.py) -/
set_option maxRecDepth 100000
theorem hy_X6_kindOf : yX6_kindOf.cls ≠ "java/lang/invoke/MethodHandle" ∧ yX6_kindOf.cls ≠ "java/lang/invoke/VarHandle" ∧ (parseMethodDescriptor yX6_kindOf.desc).map (fun d => d.parameters.length) = some 2 := by decide +kernel
set_option maxHeartbeats 4000000 in
theorem w_X6_kindOf (l : Launch) (D : DD) (sz : Nat) {σ : St} {a0 : Nat} {x1 : Int} {x2 : Int} {w : Int} (h : f_X6_kindOf σ a0 x1 x2 = some w) : Mt l yX6_kindOf cX6_kindOf 5 (some FieldType.int) ({ frames := 4, cells := 0, slots := 0, locals := 68 } : Room) D sz σ [.ref a0, iv (x1), iv (x2)] (.returned (some (iv w))) (σ) 0 0 := by
  refine Mt.of (by decide +kernel) (Nat.le_of_ble_eq_true rfl) ?_
  intro Γ X hr hnl hini hnoh
  have X : Cx Γ cX6_kindOf "DayBoyModel" _ := X
  have hL : ∀ i, i < 5 → i < nLc Γ := fun i q => by rw [hnl]; exact q
  show V Γ σ 0 0 0 [(0, .ref (a0)), (1, iv (x1)), (2, iv (x2))] []
  unfold f_X6_kindOf at h
  obtain ⟨ho0, h⟩ := cO_some h
  refine r_aload_n X 0 dX6_kindOf_0 rfl rfl ?_
  refine r_iload_n X 1 dX6_kindOf_1 rfl rfl ?_
  refine r_iload_n X 2 dX6_kindOf_2 rfl rfl ?_
  refine r_iconst X dX6_kindOf_3 ?_
  refine r_iconst X dX6_kindOf_4 ?_
  obtain ⟨r2, h1, h⟩ := bd_some h
  refine r_cV (Wd := 0) X (fun l D sz => w_X6_isDate l D sz h1) ho0.1 rfl q1614 qs73 q1612 q109 q1615 hy_X6_isDate rfl dX6_kindOf_5 rfl rfl (Nat.le_of_ble_eq_true rfl) ⟨Nat.le_of_ble_eq_true rfl, Nat.le_of_ble_eq_true rfl⟩ ⟨Nat.le_of_ble_eq_true rfl, Nat.le_of_ble_eq_true rfl⟩ ?_
  refine r_if_eq (tgt := 24) X dX6_kindOf_8 (by decide) h (fun c3 h => ?_) (fun c3 h => ?_)
  · refine r_iconst X dX6_kindOf_24 ?_
    cases h
    exact r_iret X hr dX6_kindOf_25
  · refine r_aload_n X 0 dX6_kindOf_11 rfl rfl ?_
    refine r_iload_n X 1 dX6_kindOf_12 rfl rfl ?_
    refine r_iload_n X 2 dX6_kindOf_13 rfl rfl ?_
    refine r_bipush X dX6_kindOf_14 (by decide) ?_
    refine r_bipush X dX6_kindOf_16 (by decide) ?_
    obtain ⟨r5, h4, h⟩ := bd_some h
    refine r_cV (Wd := 0) X (fun l D sz => w_X6_isDate l D sz h4) ho0.1 rfl q1614 qs73 q1612 q109 q1615 hy_X6_isDate rfl dX6_kindOf_18 rfl rfl (Nat.le_of_ble_eq_true rfl) ⟨Nat.le_of_ble_eq_true rfl, Nat.le_of_ble_eq_true rfl⟩ ⟨Nat.le_of_ble_eq_true rfl, Nat.le_of_ble_eq_true rfl⟩ ?_
    refine r_if_ne (tgt := 26) X dX6_kindOf_21 (by decide) h (fun c6 h => ?_) (fun c6 h => ?_)
    · refine r_iconst X dX6_kindOf_24 ?_
      cases h
      exact r_iret X hr dX6_kindOf_25
    · refine r_aload_n X 0 dX6_kindOf_26 rfl rfl ?_
      refine r_iload_n X 1 dX6_kindOf_27 rfl rfl ?_
      refine r_iload_n X 2 dX6_kindOf_28 rfl rfl ?_
      refine r_iconst X dX6_kindOf_29 ?_
      refine r_iconst X dX6_kindOf_30 ?_
      obtain ⟨r8, h7, h⟩ := bd_some h
      refine r_cV (Wd := 0) X (fun l D sz => w_X6_dayOf l D sz h7) ho0.1 rfl q1626 qs76 q1624 q109 q1627 hy_X6_dayOf rfl dX6_kindOf_31 rfl rfl (Nat.le_of_ble_eq_true rfl) ⟨Nat.le_of_ble_eq_true rfl, Nat.le_of_ble_eq_true rfl⟩ ⟨Nat.le_of_ble_eq_true rfl, Nat.le_of_ble_eq_true rfl⟩ ?_
      refine r_istore_n X dX6_kindOf_34 rfl (hL 3 (by decide)) (lv' := [(3, iv (r8)), (0, .ref (a0)), (1, iv (x1)), (2, iv (x2))]) rfl ?_
      refine r_aload_n X 1 dX6_kindOf_35 rfl rfl ?_
      refine r_iload_n X 2 dX6_kindOf_36 rfl rfl ?_
      refine r_iload_n X 3 dX6_kindOf_37 rfl rfl ?_
      refine r_bipush X dX6_kindOf_38 (by decide) ?_
      refine r_bipush X dX6_kindOf_40 (by decide) ?_
      obtain ⟨r10, h9, h⟩ := bd_some h
      refine r_cV (Wd := 0) X (fun l D sz => w_X6_dayOf l D sz h9) ho0.1 rfl q1626 qs76 q1624 q109 q1627 hy_X6_dayOf rfl dX6_kindOf_42 rfl rfl (Nat.le_of_ble_eq_true rfl) ⟨Nat.le_of_ble_eq_true rfl, Nat.le_of_ble_eq_true rfl⟩ ⟨Nat.le_of_ble_eq_true rfl, Nat.le_of_ble_eq_true rfl⟩ ?_
      refine r_iload_n X 0 dX6_kindOf_45 rfl rfl ?_
      refine r_isub X dX6_kindOf_46 ?_
      refine r_istore X dX6_kindOf_47 (hL 4 (by decide)) (lv' := [(4, iv ((r10 - r8))), (3, iv (r8)), (0, .ref (a0)), (1, iv (x1)), (2, iv (x2))]) rfl ?_
      refine r_iload X 0 dX6_kindOf_49 rfl ?_
      refine r_sipush X dX6_kindOf_51 (by decide) ?_
      refine r_sipush X dX6_kindOf_54 (by decide) ?_
      obtain ⟨r12, h11, h⟩ := bd_some h
      refine r_cS (Wd := 0) X (fun l D sz => w_X6_in l D sz h11) q1502 q1501 q109 q1503 hy_X6_in rfl dX6_kindOf_57 rfl rfl (Nat.le_of_ble_eq_true rfl) ⟨Nat.le_of_ble_eq_true rfl, Nat.le_of_ble_eq_true rfl⟩ ⟨Nat.le_of_ble_eq_true rfl, Nat.le_of_ble_eq_true rfl⟩ ?_
      refine r_if_eq (tgt := 79) X dX6_kindOf_60 (by decide) h (fun c13 h => ?_) (fun c13 h => ?_)
      · refine r_iconst X dX6_kindOf_79 ?_
        cases h
        exact r_iret X hr dX6_kindOf_80
      · refine r_iconst X dX6_kindOf_63 ?_
        refine r_iload_n X 1 dX6_kindOf_64 rfl rfl ?_
        refine r_bipush X dX6_kindOf_65 (by decide) ?_
        obtain ⟨c14, h⟩ := ck_some h
        refine r_irem X dX6_kindOf_67 c14 (by decide) (by decide) ?_
        refine r_imul X dX6_kindOf_68 ?_
        refine r_iload X 0 dX6_kindOf_69 rfl ?_
        refine r_iadd X dX6_kindOf_71 ?_
        refine r_sipush X dX6_kindOf_72 (by decide) ?_
        refine r_isub X dX6_kindOf_75 ?_
        refine r_goto (tgt := 80) X dX6_kindOf_76 (by decide) ?_
        cases h
        exact r_iret X hr dX6_kindOf_80
theorem hy_X6_kind : yX6_kind.cls ≠ "java/lang/invoke/MethodHandle" ∧ yX6_kind.cls ≠ "java/lang/invoke/VarHandle" ∧ (parseMethodDescriptor yX6_kind.desc).map (fun d => d.parameters.length) = some 2 := by decide +kernel
set_option maxHeartbeats 4000000 in
theorem w_X6_kind (l : Launch) (D : DD) (sz : Nat) {σ : St} {a0 : Nat} {x1 : Int} {x2 : Int} {w : Int} (h : f_X6_kind σ a0 x1 x2 = some w) : Mt l yX6_kind cX6_kind 3 (some FieldType.int) ({ frames := 5, cells := 0, slots := 0, locals := 84 } : Room) D sz σ [.ref a0, iv (x1), iv (x2)] (.returned (some (iv w))) (σ) 0 0 := by
  refine Mt.of (by decide +kernel) (Nat.le_of_ble_eq_true rfl) ?_
  intro Γ X hr hnl hini hnoh
  have X : Cx Γ cX6_kind "DayBoyModel" _ := X
  have hL : ∀ i, i < 3 → i < nLc Γ := fun i q => by rw [hnl]; exact q
  show V Γ σ 0 0 0 [(0, .ref (a0)), (1, iv (x1)), (2, iv (x2))] []
  unfold f_X6_kind at h
  obtain ⟨ho0, h⟩ := cO_some h
  refine r_aload_n X 0 dX6_kind_0 rfl rfl ?_
  refine r_iload_n X 1 dX6_kind_1 rfl rfl ?_
  obtain ⟨r2, h1, h⟩ := bd_some h
  refine r_cV (Wd := 0) X (fun l D sz => w_X6_isCalendar l D sz h1) ho0.1 rfl q1622 qs75 q1620 q109 q1623 hy_X6_isCalendar rfl dX6_kind_2 rfl rfl (Nat.le_of_ble_eq_true rfl) ⟨Nat.le_of_ble_eq_true rfl, Nat.le_of_ble_eq_true rfl⟩ ⟨Nat.le_of_ble_eq_true rfl, Nat.le_of_ble_eq_true rfl⟩ ?_
  refine r_if_eq (tgt := 17) X dX6_kind_5 (by decide) h (fun c3 h => ?_) (fun c3 h => ?_)
  · refine r_iconst X dX6_kind_17 ?_
    cases h
    exact r_iret X hr dX6_kind_18
  · refine r_aload_n X 0 dX6_kind_8 rfl rfl ?_
    refine r_iload_n X 1 dX6_kind_9 rfl rfl ?_
    refine r_iload_n X 2 dX6_kind_10 rfl rfl ?_
    obtain ⟨r5, h4, h⟩ := bd_some h
    refine r_cV (Wd := 0) X (fun l D sz => w_X6_kindOf l D sz h4) ho0.1 rfl q1654 qs78 q1652 q109 q1655 hy_X6_kindOf rfl dX6_kind_11 rfl rfl (Nat.le_of_ble_eq_true rfl) ⟨Nat.le_of_ble_eq_true rfl, Nat.le_of_ble_eq_true rfl⟩ ⟨Nat.le_of_ble_eq_true rfl, Nat.le_of_ble_eq_true rfl⟩ ?_
    refine r_goto (tgt := 18) X dX6_kind_14 (by decide) ?_
    cases h
    exact r_iret X hr dX6_kind_18
theorem hy_X6_isHead : yX6_isHead.cls ≠ "java/lang/invoke/MethodHandle" ∧ yX6_isHead.cls ≠ "java/lang/invoke/VarHandle" ∧ (parseMethodDescriptor yX6_isHead.desc).map (fun d => d.parameters.length) = some 1 := by decide +kernel
set_option maxHeartbeats 4000000 in
theorem w_X6_isHead (l : Launch) (D : DD) (sz : Nat) {σ : St} {a0 : Nat} {x1 : Int} {w : Int} (h : f_X6_isHead σ a0 x1 = some w) : Mt l yX6_isHead cX6_isHead 2 (some FieldType.boolean) ({ frames := 1, cells := 0, slots := 0, locals := 14 } : Room) D sz σ [.ref a0, iv (x1)] (.returned (some (iv w))) (σ) 0 0 := by
  refine Mt.of (by decide +kernel) (Nat.le_of_ble_eq_true rfl) ?_
  intro Γ X hr hnl hini hnoh
  have X : Cx Γ cX6_isHead "DayBoyModel" _ := X
  have hL : ∀ i, i < 2 → i < nLc Γ := fun i q => by rw [hnl]; exact q
  show V Γ σ 0 0 0 [(0, .ref (a0)), (1, iv (x1))] []
  unfold f_X6_isHead at h
  obtain ⟨ho0, h⟩ := cO_some h
  refine r_iload_n X 1 dX6_isHead_0 rfl rfl ?_
  refine r_iconst X dX6_isHead_1 ?_
  refine r_aload_n X 0 dX6_isHead_2 rfl rfl ?_
  refine r_getI (kf := 28) X ho0.1 rfl (by decide) rfl (Or.inl q1269) dX6_isHead_3 ?_
  refine r_iconst X dX6_isHead_6 ?_
  refine r_isub X dX6_isHead_7 ?_
  obtain ⟨r2, h1, h⟩ := bd_some h
  refine r_cS (Wd := 0) X (fun l D sz => w_X6_in l D sz h1) q1502 q1501 q109 q1503 hy_X6_in rfl dX6_isHead_8 rfl rfl (Nat.le_of_ble_eq_true rfl) ⟨Nat.le_of_ble_eq_true rfl, Nat.le_of_ble_eq_true rfl⟩ ⟨Nat.le_of_ble_eq_true rfl, Nat.le_of_ble_eq_true rfl⟩ ?_
  obtain ⟨c3, h⟩ := ck_some h
  cases h
  exact r_zret X hr (c3) dX6_isHead_11
theorem hy_X6_nextYear : yX6_nextYear.cls ≠ "java/lang/invoke/MethodHandle" ∧ yX6_nextYear.cls ≠ "java/lang/invoke/VarHandle" ∧ (parseMethodDescriptor yX6_nextYear.desc).map (fun d => d.parameters.length) = some 2 := by decide +kernel
set_option maxHeartbeats 4000000 in
theorem w_X6_nextYear (l : Launch) (D : DD) (sz : Nat) {σ : St} {a0 : Nat} {x1 : Int} {x2 : Int} {w : Int} (h : f_X6_nextYear σ a0 x1 x2 = some w) : Mt l yX6_nextYear cX6_nextYear 9 (some FieldType.int) ({ frames := 1, cells := 0, slots := 0, locals := 14 } : Room) D sz σ [.ref a0, iv (x1), iv (x2)] (.returned (some (iv w))) (σ) 0 0 := by
  refine Mt.of (by decide +kernel) (Nat.le_of_ble_eq_true rfl) ?_
  intro Γ X hr hnl hini hnoh
  have X : Cx Γ cX6_nextYear "DayBoyModel" _ := X
  have hL : ∀ i, i < 9 → i < nLc Γ := fun i q => by rw [hnl]; exact q
  show V Γ σ 0 0 0 [(0, .ref (a0)), (1, iv (x1)), (2, iv (x2))] []
  unfold f_X6_nextYear at h
  obtain ⟨ho0, h⟩ := cO_some h
  refine r_iconst X dX6_nextYear_0 ?_
  refine r_istore_n X dX6_nextYear_1 rfl (hL 3 (by decide)) (lv' := [(3, iv ((-1))), (0, .ref (a0)), (1, iv (x1)), (2, iv (x2))]) rfl ?_
  refine r_iconst X dX6_nextYear_2 ?_
  refine r_istore X dX6_nextYear_3 (hL 4 (by decide)) (lv' := [(4, iv (0)), (3, iv ((-1))), (0, .ref (a0)), (1, iv (x1)), (2, iv (x2))]) rfl ?_
  have L5 : ∀ s : Int × Int, lp (fun s => f_X6_nextYear_b5 (σ) (a0) (x1) (x2) s.1 s.2) s = some w → V Γ (σ) 0 0 5 [(0, .ref (a0)), (1, iv (x1)), (2, iv (x2)), (3, iv (s.1)), (4, iv (s.2))] [] := by
    refine lp_rule (P := fun s : Int × Int => V Γ (σ) 0 0 5 [(0, .ref (a0)), (1, iv (x1)), (2, iv (x2)), (3, iv (s.1)), (4, iv (s.2))] []) ?_
    intro s z1 h ihb1 ihe1
    obtain ⟨v3_1, v4_1⟩ := s
    have h : f_X6_nextYear_b5 (σ) (a0) (x1) (x2) v3_1 v4_1 = some z1 := h
    unfold f_X6_nextYear_b5 at h
    show V Γ σ 0 0 5 [(0, .ref (a0)), (1, iv (x1)), (2, iv (x2)), (3, iv (v3_1)), (4, iv (v4_1))] []
    have J127 : ∀ (v3_j127 : Int) (v4_j127 : Int) (v5_j127 : Int) (v8_j127 : Int), f_X6_nextYear_j127 (σ) (a0) (x1) (x2) v3_j127 v4_j127 v5_j127 v8_j127 = some z1 → V Γ σ 0 0 127 [(0, .ref (a0)), (1, iv (x1)), (2, iv (x2)), (3, iv (v3_j127)), (4, iv (v4_j127)), (5, jv (v5_j127)), (8, iv (v8_j127))] [] := by
      intro v3_j127 v4_j127 v5_j127 v8_j127 h
      unfold f_X6_nextYear_j127 at h
      refine r_iload X 6 dX6_nextYear_127 rfl ?_
      refine r_iconst X dX6_nextYear_129 ?_
      refine r_sipush X dX6_nextYear_130 (by decide) ?_
      obtain ⟨r2, h1, h⟩ := bd_some h
      refine r_cS (Wd := 0) X (fun l D sz => w_X6_in l D sz h1) q1502 q1501 q109 q1503 hy_X6_in rfl dX6_nextYear_133 rfl rfl (Nat.le_of_ble_eq_true rfl) ⟨Nat.le_of_ble_eq_true rfl, Nat.le_of_ble_eq_true rfl⟩ ⟨Nat.le_of_ble_eq_true rfl, Nat.le_of_ble_eq_true rfl⟩ ?_
      refine r_if_eq (tgt := 172) X dX6_nextYear_136 (by decide) h (fun c3 h => ?_) (fun c3 h => ?_)
      · refine r_iinc X 4 dX6_nextYear_172 rfl (hL 4 (by decide)) (lv' := [(4, iv ((v4_j127 + 1))), (0, .ref (a0)), (1, iv (x1)), (2, iv (x2)), (3, iv (v3_j127)), (5, jv (v5_j127)), (8, iv (v8_j127))]) rfl ?_
        refine r_goto (tgt := 5) X dX6_nextYear_175 (by decide) ?_
        exact V.sub [1, 2, 3, 4, 0] rfl (ihb1 _ (Option.some.inj h).symm)
      · refine r_aload_n X 0 dX6_nextYear_139 rfl rfl ?_
        refine r_getA (kf := 30) X ho0.1 rfl (by decide) (by decide) (Or.inl q1271) dX6_nextYear_140 ?_
        refine r_sipush X dX6_nextYear_143 (by decide) ?_
        refine r_iload_n X 1 dX6_nextYear_146 rfl rfl ?_
        refine r_imul X dX6_nextYear_147 ?_
        refine r_iload X 6 dX6_nextYear_148 rfl ?_
        refine r_iadd X dX6_nextYear_150 ?_
        refine r_lald X ho0.1 (ho0.2 30 (by decide)) rfl rfl rfl (by decide) dX6_nextYear_151 h (fun h => ?_)
        refine r_lload X 5 dX6_nextYear_152 rfl ?_
        refine r_lcmp_ne (tgt := 172) X dX6_nextYear_154 dX6_nextYear_155 (by decide) h (fun c4 h => ?_) (fun c4 h => ?_)
        · refine r_iload_n X 3 dX6_nextYear_158 rfl rfl ?_
          refine r_iconst X dX6_nextYear_159 ?_
          refine r_icmp_eq (tgt := 169) X dX6_nextYear_160 (by decide) h (fun c5 h => ?_) (fun c5 h => ?_)
          · refine r_iload X 6 dX6_nextYear_169 rfl ?_
            refine r_istore_n X dX6_nextYear_171 rfl (hL 3 (by decide)) (lv' := [(3, iv (v8_j127)), (0, .ref (a0)), (1, iv (x1)), (2, iv (x2)), (4, iv (v4_j127)), (5, jv (v5_j127)), (8, iv (v8_j127))]) rfl ?_
            refine r_iinc X 4 dX6_nextYear_172 rfl (hL 4 (by decide)) (lv' := [(4, iv ((v4_j127 + 1))), (3, iv (v8_j127)), (0, .ref (a0)), (1, iv (x1)), (2, iv (x2)), (5, jv (v5_j127)), (8, iv (v8_j127))]) rfl ?_
            refine r_goto (tgt := 5) X dX6_nextYear_175 (by decide) ?_
            exact V.sub [2, 3, 4, 1, 0] rfl (ihb1 _ (Option.some.inj h).symm)
          · refine r_iload X 6 dX6_nextYear_163 rfl ?_
            refine r_iload_n X 3 dX6_nextYear_165 rfl rfl ?_
            refine r_icmp_ge (tgt := 172) X dX6_nextYear_166 (by decide) h (fun c6 h => ?_) (fun c6 h => ?_)
            · refine r_iload X 6 dX6_nextYear_169 rfl ?_
              refine r_istore_n X dX6_nextYear_171 rfl (hL 3 (by decide)) (lv' := [(3, iv (v8_j127)), (0, .ref (a0)), (1, iv (x1)), (2, iv (x2)), (4, iv (v4_j127)), (5, jv (v5_j127)), (8, iv (v8_j127))]) rfl ?_
              refine r_iinc X 4 dX6_nextYear_172 rfl (hL 4 (by decide)) (lv' := [(4, iv ((v4_j127 + 1))), (3, iv (v8_j127)), (0, .ref (a0)), (1, iv (x1)), (2, iv (x2)), (5, jv (v5_j127)), (8, iv (v8_j127))]) rfl ?_
              refine r_goto (tgt := 5) X dX6_nextYear_175 (by decide) ?_
              exact V.sub [2, 3, 4, 1, 0] rfl (ihb1 _ (Option.some.inj h).symm)
            · refine r_iinc X 4 dX6_nextYear_172 rfl (hL 4 (by decide)) (lv' := [(4, iv ((v4_j127 + 1))), (0, .ref (a0)), (1, iv (x1)), (2, iv (x2)), (3, iv (v3_j127)), (5, jv (v5_j127)), (8, iv (v8_j127))]) rfl ?_
              refine r_goto (tgt := 5) X dX6_nextYear_175 (by decide) ?_
              exact V.sub [1, 2, 3, 4, 0] rfl (ihb1 _ (Option.some.inj h).symm)
        · refine r_iinc X 4 dX6_nextYear_172 rfl (hL 4 (by decide)) (lv' := [(4, iv ((v4_j127 + 1))), (0, .ref (a0)), (1, iv (x1)), (2, iv (x2)), (3, iv (v3_j127)), (5, jv (v5_j127)), (8, iv (v8_j127))]) rfl ?_
          refine r_goto (tgt := 5) X dX6_nextYear_175 (by decide) ?_
          exact V.sub [1, 2, 3, 4, 0] rfl (ihb1 _ (Option.some.inj h).symm)
    have J124 : ∀ (v4_j124 : Int) (v5_j124 : Int) (v7_j124 : Int) (v8_j124 : Int), f_X6_nextYear_j124 (σ) (a0) (x1) (x2) v4_j124 v5_j124 v7_j124 v8_j124 = some z1 → V Γ σ 0 0 124 [(0, .ref (a0)), (1, iv (x1)), (2, iv (x2)), (4, iv (v4_j124)), (5, jv (v5_j124)), (7, iv (v7_j124)), (8, iv (v8_j124))] [] := by
      intro v4_j124 v5_j124 v7_j124 v8_j124 h
      unfold f_X6_nextYear_j124 at h
      refine r_iload X 5 dX6_nextYear_124 rfl ?_
      refine r_istore_n X dX6_nextYear_126 rfl (hL 3 (by decide)) (lv' := [(3, iv (v7_j124)), (0, .ref (a0)), (1, iv (x1)), (2, iv (x2)), (4, iv (v4_j124)), (5, jv (v5_j124)), (7, iv (v7_j124)), (8, iv (v8_j124))]) rfl ?_
      exact V.sub [1, 2, 3, 0, 4, 5, 7] rfl (J127 (v7_j124) (v4_j124) (v5_j124) (v8_j124) h)
    refine r_iload X 4 dX6_nextYear_5 rfl ?_
    refine r_aload_n X 0 dX6_nextYear_7 rfl rfl ?_
    refine r_getA (kf := 18) X ho0.1 rfl (by decide) (by decide) (Or.inl q1259) dX6_nextYear_8 ?_
    refine r_iload_n X 1 dX6_nextYear_11 rfl rfl ?_
    refine r_iald X ho0.1 (ho0.2 18 (by decide)) rfl rfl rfl (by decide) dX6_nextYear_12 h (fun h => ?_)
    refine r_icmp_ge (tgt := 178) X dX6_nextYear_13 (by decide) h (fun c7 h => ?_) (fun c7 h => ?_)
    · refine r_aload_n X 0 dX6_nextYear_16 rfl rfl ?_
      refine r_getA (kf := 30) X ho0.1 rfl (by decide) (by decide) (Or.inl q1271) dX6_nextYear_17 ?_
      refine r_sipush X dX6_nextYear_20 (by decide) ?_
      refine r_iload_n X 1 dX6_nextYear_23 rfl rfl ?_
      refine r_imul X dX6_nextYear_24 ?_
      refine r_iload_n X 2 dX6_nextYear_25 rfl rfl ?_
      refine r_iadd X dX6_nextYear_26 ?_
      refine r_lald X ho0.1 (ho0.2 30 (by decide)) rfl rfl rfl (by decide) dX6_nextYear_27 h (fun h => ?_)
      refine r_ldc2 (z := 100000) X q1606 dX6_nextYear_28 rfl ?_
      refine r_aload_n X 0 dX6_nextYear_31 rfl rfl ?_
      refine r_getA (kf := 20) X ho0.1 rfl (by decide) (by decide) (Or.inl q1261) dX6_nextYear_32 ?_
      refine r_bipush X dX6_nextYear_35 (by decide) ?_
      refine r_iload_n X 1 dX6_nextYear_37 rfl rfl ?_
      refine r_imul X dX6_nextYear_38 ?_
      refine r_iload X 4 dX6_nextYear_39 rfl ?_
      refine r_iadd X dX6_nextYear_41 ?_
      refine r_iald X ho0.1 (ho0.2 20 (by decide)) rfl rfl rfl (by decide) dX6_nextYear_42 h (fun h => ?_)
      obtain ⟨c8, h⟩ := ck_some h
      refine r_i2l X dX6_nextYear_43 c8 ?_
      refine r_lmul X dX6_nextYear_44 ?_
      refine r_lsub X dX6_nextYear_45 ?_
      refine r_lconst (y := 1) X dX6_nextYear_46 rfl ?_
      refine r_lsub X dX6_nextYear_47 ?_
      refine r_lstore X dX6_nextYear_48 (hL 6 (by decide)) (lv' := [(5, jv ((((gJ (σ) (a0) 30 (((10001 * x1) + x2))) - (100000 * (gI (σ) (a0) 20 (((6 * x1) + v4_1))))) - 1))), (0, .ref (a0)), (1, iv (x1)), (2, iv (x2)), (3, iv (v3_1)), (4, iv (v4_1))]) rfl ?_
      refine r_iload_n X 3 dX6_nextYear_50 rfl rfl ?_
      refine r_aload_n X 1 dX6_nextYear_51 rfl rfl ?_
      refine r_getA (kf := 19) X ho0.1 rfl (by decide) (by decide) (Or.inl q1260) dX6_nextYear_52 ?_
      refine r_bipush X dX6_nextYear_55 (by decide) ?_
      refine r_iload_n X 2 dX6_nextYear_57 rfl rfl ?_
      refine r_imul X dX6_nextYear_58 ?_
      refine r_iload X 5 dX6_nextYear_59 rfl ?_
      refine r_iadd X dX6_nextYear_61 ?_
      refine r_iald X ho0.1 (ho0.2 19 (by decide)) rfl rfl rfl (by decide) dX6_nextYear_62 h (fun h => ?_)
      refine r_isub X dX6_nextYear_63 ?_
      refine r_istore X dX6_nextYear_64 (hL 7 (by decide)) (lv' := [(7, iv ((x2 - (gI (σ) (a0) 19 (((6 * x1) + v4_1)))))), (5, jv ((((gJ (σ) (a0) 30 (((10001 * x1) + x2))) - (100000 * (gI (σ) (a0) 20 (((6 * x1) + v4_1))))) - 1))), (0, .ref (a0)), (1, iv (x1)), (2, iv (x2)), (3, iv (v3_1)), (4, iv (v4_1))]) rfl ?_
      refine r_iload_n X 4 dX6_nextYear_66 rfl rfl ?_
      refine r_aload_n X 2 dX6_nextYear_67 rfl rfl ?_
      refine r_getA (kf := 19) X ho0.1 rfl (by decide) (by decide) (Or.inl q1260) dX6_nextYear_68 ?_
      refine r_bipush X dX6_nextYear_71 (by decide) ?_
      refine r_iload_n X 3 dX6_nextYear_73 rfl rfl ?_
      refine r_imul X dX6_nextYear_74 ?_
      refine r_iload X 6 dX6_nextYear_75 rfl ?_
      refine r_iadd X dX6_nextYear_77 ?_
      refine r_iald X ho0.1 (ho0.2 19 (by decide)) rfl rfl rfl (by decide) dX6_nextYear_78 h (fun h => ?_)
      refine r_iadd X dX6_nextYear_79 ?_
      refine r_istore X dX6_nextYear_80 (hL 8 (by decide)) (lv' := [(8, iv ((x2 + (gI (σ) (a0) 19 (((6 * x1) + v4_1)))))), (7, iv ((x2 - (gI (σ) (a0) 19 (((6 * x1) + v4_1)))))), (5, jv ((((gJ (σ) (a0) 30 (((10001 * x1) + x2))) - (100000 * (gI (σ) (a0) 20 (((6 * x1) + v4_1))))) - 1))), (0, .ref (a0)), (1, iv (x1)), (2, iv (x2)), (3, iv (v3_1)), (4, iv (v4_1))]) rfl ?_
      refine r_iload X 1 dX6_nextYear_82 rfl ?_
      refine r_iconst X dX6_nextYear_84 ?_
      refine r_sipush X dX6_nextYear_85 (by decide) ?_
      obtain ⟨r10, h9, h⟩ := bd_some h
      refine r_cS (Wd := 0) X (fun l D sz => w_X6_in l D sz h9) q1502 q1501 q109 q1503 hy_X6_in rfl dX6_nextYear_88 rfl rfl (Nat.le_of_ble_eq_true rfl) ⟨Nat.le_of_ble_eq_true rfl, Nat.le_of_ble_eq_true rfl⟩ ⟨Nat.le_of_ble_eq_true rfl, Nat.le_of_ble_eq_true rfl⟩ ?_
      refine r_if_eq (tgt := 127) X dX6_nextYear_91 (by decide) h (fun c11 h => ?_) (fun c11 h => ?_)
      · exact V.sub [3, 4, 5, 6, 7, 2, 0] rfl (J127 (v3_1) (v4_1) ((((gJ (σ) (a0) 30 (((10001 * x1) + x2))) - (100000 * (gI (σ) (a0) 20 (((6 * x1) + v4_1))))) - 1)) ((x2 + (gI (σ) (a0) 19 (((6 * x1) + v4_1))))) h)
      · refine r_aload_n X 3 dX6_nextYear_94 rfl rfl ?_
        refine r_getA (kf := 30) X ho0.1 rfl (by decide) (by decide) (Or.inl q1271) dX6_nextYear_95 ?_
        refine r_sipush X dX6_nextYear_98 (by decide) ?_
        refine r_iload_n X 4 dX6_nextYear_101 rfl rfl ?_
        refine r_imul X dX6_nextYear_102 ?_
        refine r_iload X 1 dX6_nextYear_103 rfl ?_
        refine r_iadd X dX6_nextYear_105 ?_
        refine r_lald X ho0.1 (ho0.2 30 (by decide)) rfl rfl rfl (by decide) dX6_nextYear_106 h (fun h => ?_)
        refine r_lload X 2 dX6_nextYear_107 rfl ?_
        refine r_lcmp_ne (tgt := 127) X dX6_nextYear_109 dX6_nextYear_110 (by decide) h (fun c12 h => ?_) (fun c12 h => ?_)
        · refine r_iload_n X 6 dX6_nextYear_113 rfl rfl ?_
          refine r_iconst X dX6_nextYear_114 ?_
          refine r_icmp_eq (tgt := 124) X dX6_nextYear_115 (by decide) h (fun c13 h => ?_) (fun c13 h => ?_)
          · exact V.sub [3, 4, 5, 7, 2, 1, 0] rfl (J124 (v4_1) ((((gJ (σ) (a0) 30 (((10001 * x1) + x2))) - (100000 * (gI (σ) (a0) 20 (((6 * x1) + v4_1))))) - 1)) ((x2 - (gI (σ) (a0) 19 (((6 * x1) + v4_1))))) ((x2 + (gI (σ) (a0) 19 (((6 * x1) + v4_1))))) h)
          · refine r_iload X 1 dX6_nextYear_118 rfl ?_
            refine r_iload_n X 6 dX6_nextYear_120 rfl rfl ?_
            refine r_icmp_ge (tgt := 127) X dX6_nextYear_121 (by decide) h (fun c14 h => ?_) (fun c14 h => ?_)
            · exact V.sub [3, 4, 5, 7, 2, 1, 0] rfl (J124 (v4_1) ((((gJ (σ) (a0) 30 (((10001 * x1) + x2))) - (100000 * (gI (σ) (a0) 20 (((6 * x1) + v4_1))))) - 1)) ((x2 - (gI (σ) (a0) 19 (((6 * x1) + v4_1))))) ((x2 + (gI (σ) (a0) 19 (((6 * x1) + v4_1))))) h)
            · exact V.sub [3, 4, 5, 6, 7, 2, 0] rfl (J127 (v3_1) (v4_1) ((((gJ (σ) (a0) 30 (((10001 * x1) + x2))) - (100000 * (gI (σ) (a0) 20 (((6 * x1) + v4_1))))) - 1)) ((x2 + (gI (σ) (a0) 19 (((6 * x1) + v4_1))))) h)
        · exact V.sub [3, 4, 5, 6, 7, 2, 0] rfl (J127 (v3_1) (v4_1) ((((gJ (σ) (a0) 30 (((10001 * x1) + x2))) - (100000 * (gI (σ) (a0) 20 (((6 * x1) + v4_1))))) - 1)) ((x2 + (gI (σ) (a0) 19 (((6 * x1) + v4_1))))) h)
    · have h := ex_some h ihe1
      refine r_iload_n X 3 dX6_nextYear_178 rfl rfl ?_
      cases h
      exact r_iret X hr dX6_nextYear_179
  exact V.sub [2, 3, 4, 1, 0] rfl (L5 ((-1), 0) h)
theorem hy_X6_nextMonth : yX6_nextMonth.cls ≠ "java/lang/invoke/MethodHandle" ∧ yX6_nextMonth.cls ≠ "java/lang/invoke/VarHandle" ∧ (parseMethodDescriptor yX6_nextMonth.desc).map (fun d => d.parameters.length) = some 2 := by decide +kernel
set_option maxHeartbeats 4000000 in
theorem w_X6_nextMonth (l : Launch) (D : DD) (sz : Nat) {σ : St} {a0 : Nat} {x1 : Int} {x2 : Int} {w : Int} (h : f_X6_nextMonth σ a0 x1 x2 = some w) : Mt l yX6_nextMonth cX6_nextMonth 8 (some FieldType.int) ({ frames := 0, cells := 0, slots := 0, locals := 0 } : Room) D sz σ [.ref a0, iv (x1), iv (x2)] (.returned (some (iv w))) (σ) 0 0 := by
  refine Mt.of (by decide +kernel) (Nat.le_of_ble_eq_true rfl) ?_
  intro Γ X hr hnl hini hnoh
  have X : Cx Γ cX6_nextMonth "DayBoyModel" _ := X
  have hL : ∀ i, i < 8 → i < nLc Γ := fun i q => by rw [hnl]; exact q
  show V Γ σ 0 0 0 [(0, .ref (a0)), (1, iv (x1)), (2, iv (x2))] []
  unfold f_X6_nextMonth at h
  obtain ⟨ho0, h⟩ := cO_some h
  refine r_iconst X dX6_nextMonth_0 ?_
  refine r_istore_n X dX6_nextMonth_1 rfl (hL 3 (by decide)) (lv' := [(3, iv ((-1))), (0, .ref (a0)), (1, iv (x1)), (2, iv (x2))]) rfl ?_
  refine r_iconst X dX6_nextMonth_2 ?_
  refine r_istore X dX6_nextMonth_3 (hL 4 (by decide)) (lv' := [(4, iv (0)), (3, iv ((-1))), (0, .ref (a0)), (1, iv (x1)), (2, iv (x2))]) rfl ?_
  have L5 : ∀ s : Int × Int, lp (fun s => f_X6_nextMonth_b5 (σ) (a0) (x1) (x2) s.1 s.2) s = some w → V Γ (σ) 0 0 5 [(0, .ref (a0)), (1, iv (x1)), (2, iv (x2)), (3, iv (s.1)), (4, iv (s.2))] [] := by
    refine lp_rule (P := fun s : Int × Int => V Γ (σ) 0 0 5 [(0, .ref (a0)), (1, iv (x1)), (2, iv (x2)), (3, iv (s.1)), (4, iv (s.2))] []) ?_
    intro s z1 h ihb1 ihe1
    obtain ⟨v3_1, v4_1⟩ := s
    have h : f_X6_nextMonth_b5 (σ) (a0) (x1) (x2) v3_1 v4_1 = some z1 := h
    unfold f_X6_nextMonth_b5 at h
    show V Γ σ 0 0 5 [(0, .ref (a0)), (1, iv (x1)), (2, iv (x2)), (3, iv (v3_1)), (4, iv (v4_1))] []
    have J67 : ∀ (v3_j67 : Int) (v4_j67 : Int) (t0_j67 : Int), f_X6_nextMonth_j67 (σ) (a0) (x1) (x2) v3_j67 v4_j67 t0_j67 = some z1 → V Γ σ 0 0 67 [(0, .ref (a0)), (1, iv (x1)), (2, iv (x2)), (3, iv (v3_j67)), (4, iv (v4_j67))] [iv (t0_j67)] := by
      intro v3_j67 v4_j67 t0_j67 h
      unfold f_X6_nextMonth_j67 at h
      refine r_istore X dX6_nextMonth_67 (hL 7 (by decide)) (lv' := [(7, iv (t0_j67)), (0, .ref (a0)), (1, iv (x1)), (2, iv (x2)), (3, iv (v3_j67)), (4, iv (v4_j67))]) rfl ?_
      refine r_iload X 0 dX6_nextMonth_69 rfl ?_
      refine r_iconst X dX6_nextMonth_71 ?_
      refine r_icmp_eq (tgt := 136) X dX6_nextMonth_72 (by decide) h (fun c1 h => ?_) (fun c1 h => ?_)
      · refine r_iinc X 5 dX6_nextMonth_136 rfl (hL 4 (by decide)) (lv' := [(4, iv ((v4_j67 + 1))), (7, iv (t0_j67)), (0, .ref (a0)), (1, iv (x1)), (2, iv (x2)), (3, iv (v3_j67))]) rfl ?_
        refine r_goto (tgt := 5) X dX6_nextMonth_139 (by decide) ?_
        exact V.sub [2, 3, 4, 5, 0] rfl (ihb1 _ (Option.some.inj h).symm)
      · refine r_aload_n X 1 dX6_nextMonth_75 rfl rfl ?_
        refine r_getA (kf := 31) X ho0.1 rfl (by decide) (by decide) (Or.inl q1272) dX6_nextMonth_76 ?_
        refine r_bipush X dX6_nextMonth_79 (by decide) ?_
        refine r_iload_n X 2 dX6_nextMonth_81 rfl rfl ?_
        refine r_imul X dX6_nextMonth_82 ?_
        refine r_iload X 0 dX6_nextMonth_83 rfl ?_
        refine r_iadd X dX6_nextMonth_85 ?_
        refine r_lald X ho0.1 (ho0.2 31 (by decide)) rfl rfl rfl (by decide) dX6_nextMonth_86 h (fun h => ?_)
        refine r_aload_n X 1 dX6_nextMonth_87 rfl rfl ?_
        refine r_getA (kf := 31) X ho0.1 rfl (by decide) (by decide) (Or.inl q1272) dX6_nextMonth_88 ?_
        refine r_bipush X dX6_nextMonth_91 (by decide) ?_
        refine r_iload_n X 2 dX6_nextMonth_93 rfl rfl ?_
        refine r_imul X dX6_nextMonth_94 ?_
        refine r_iload_n X 3 dX6_nextMonth_95 rfl rfl ?_
        refine r_iadd X dX6_nextMonth_96 ?_
        refine r_lald X ho0.1 (ho0.2 31 (by decide)) rfl rfl rfl (by decide) dX6_nextMonth_97 h (fun h => ?_)
        refine r_ldc2 (z := 100000) X q1606 dX6_nextMonth_98 rfl ?_
        refine r_aload_n X 1 dX6_nextMonth_101 rfl rfl ?_
        refine r_getA (kf := 24) X ho0.1 rfl (by decide) (by decide) (Or.inl q1265) dX6_nextMonth_102 ?_
        refine r_bipush X dX6_nextMonth_105 (by decide) ?_
        refine r_iload_n X 2 dX6_nextMonth_107 rfl rfl ?_
        refine r_imul X dX6_nextMonth_108 ?_
        refine r_iload X 5 dX6_nextMonth_109 rfl ?_
        refine r_iadd X dX6_nextMonth_111 ?_
        refine r_iald X ho0.1 (ho0.2 24 (by decide)) rfl rfl rfl (by decide) dX6_nextMonth_112 h (fun h => ?_)
        obtain ⟨c2, h⟩ := ck_some h
        refine r_i2l X dX6_nextMonth_113 c2 ?_
        refine r_lmul X dX6_nextMonth_114 ?_
        refine r_lsub X dX6_nextMonth_115 ?_
        refine r_lconst (y := 1) X dX6_nextMonth_116 rfl ?_
        refine r_lsub X dX6_nextMonth_117 ?_
        refine r_lcmp_ne (tgt := 136) X dX6_nextMonth_118 dX6_nextMonth_119 (by decide) h (fun c3 h => ?_) (fun c3 h => ?_)
        · refine r_iload_n X 4 dX6_nextMonth_122 rfl rfl ?_
          refine r_iconst X dX6_nextMonth_123 ?_
          refine r_icmp_eq (tgt := 133) X dX6_nextMonth_124 (by decide) h (fun c4 h => ?_) (fun c4 h => ?_)
          · refine r_iload X 0 dX6_nextMonth_133 rfl ?_
            refine r_istore_n X dX6_nextMonth_135 rfl (hL 3 (by decide)) (lv' := [(3, iv (t0_j67)), (7, iv (t0_j67)), (0, .ref (a0)), (1, iv (x1)), (2, iv (x2)), (4, iv (v4_j67))]) rfl ?_
            refine r_iinc X 5 dX6_nextMonth_136 rfl (hL 4 (by decide)) (lv' := [(4, iv ((v4_j67 + 1))), (3, iv (t0_j67)), (7, iv (t0_j67)), (0, .ref (a0)), (1, iv (x1)), (2, iv (x2))]) rfl ?_
            refine r_goto (tgt := 5) X dX6_nextMonth_139 (by decide) ?_
            exact V.sub [3, 4, 5, 1, 0] rfl (ihb1 _ (Option.some.inj h).symm)
          · refine r_iload X 0 dX6_nextMonth_127 rfl ?_
            refine r_iload_n X 4 dX6_nextMonth_129 rfl rfl ?_
            refine r_icmp_ge (tgt := 136) X dX6_nextMonth_130 (by decide) h (fun c5 h => ?_) (fun c5 h => ?_)
            · refine r_iload X 0 dX6_nextMonth_133 rfl ?_
              refine r_istore_n X dX6_nextMonth_135 rfl (hL 3 (by decide)) (lv' := [(3, iv (t0_j67)), (7, iv (t0_j67)), (0, .ref (a0)), (1, iv (x1)), (2, iv (x2)), (4, iv (v4_j67))]) rfl ?_
              refine r_iinc X 5 dX6_nextMonth_136 rfl (hL 4 (by decide)) (lv' := [(4, iv ((v4_j67 + 1))), (3, iv (t0_j67)), (7, iv (t0_j67)), (0, .ref (a0)), (1, iv (x1)), (2, iv (x2))]) rfl ?_
              refine r_goto (tgt := 5) X dX6_nextMonth_139 (by decide) ?_
              exact V.sub [3, 4, 5, 1, 0] rfl (ihb1 _ (Option.some.inj h).symm)
            · refine r_iinc X 5 dX6_nextMonth_136 rfl (hL 4 (by decide)) (lv' := [(4, iv ((v4_j67 + 1))), (7, iv (t0_j67)), (0, .ref (a0)), (1, iv (x1)), (2, iv (x2)), (3, iv (v3_j67))]) rfl ?_
              refine r_goto (tgt := 5) X dX6_nextMonth_139 (by decide) ?_
              exact V.sub [2, 3, 4, 5, 0] rfl (ihb1 _ (Option.some.inj h).symm)
        · refine r_iinc X 5 dX6_nextMonth_136 rfl (hL 4 (by decide)) (lv' := [(4, iv ((v4_j67 + 1))), (7, iv (t0_j67)), (0, .ref (a0)), (1, iv (x1)), (2, iv (x2)), (3, iv (v3_j67))]) rfl ?_
          refine r_goto (tgt := 5) X dX6_nextMonth_139 (by decide) ?_
          exact V.sub [2, 3, 4, 5, 0] rfl (ihb1 _ (Option.some.inj h).symm)
    refine r_iload X 4 dX6_nextMonth_5 rfl ?_
    refine r_aload_n X 0 dX6_nextMonth_7 rfl rfl ?_
    refine r_getA (kf := 21) X ho0.1 rfl (by decide) (by decide) (Or.inl q1262) dX6_nextMonth_8 ?_
    refine r_iload_n X 1 dX6_nextMonth_11 rfl rfl ?_
    refine r_iald X ho0.1 (ho0.2 21 (by decide)) rfl rfl rfl (by decide) dX6_nextMonth_12 h (fun h => ?_)
    refine r_icmp_ge (tgt := 142) X dX6_nextMonth_13 (by decide) h (fun c6 h => ?_) (fun c6 h => ?_)
    · refine r_aload_n X 0 dX6_nextMonth_16 rfl rfl ?_
      refine r_getA (kf := 22) X ho0.1 rfl (by decide) (by decide) (Or.inl q1263) dX6_nextMonth_17 ?_
      refine r_bipush X dX6_nextMonth_20 (by decide) ?_
      refine r_iload_n X 1 dX6_nextMonth_22 rfl rfl ?_
      refine r_imul X dX6_nextMonth_23 ?_
      refine r_iload X 4 dX6_nextMonth_24 rfl ?_
      refine r_iadd X dX6_nextMonth_26 ?_
      refine r_iald X ho0.1 (ho0.2 22 (by decide)) rfl rfl rfl (by decide) dX6_nextMonth_27 h (fun h => ?_)
      refine r_istore X dX6_nextMonth_28 (hL 5 (by decide)) (lv' := [(5, iv ((gI (σ) (a0) 22 (((12 * x1) + v4_1))))), (0, .ref (a0)), (1, iv (x1)), (2, iv (x2)), (3, iv (v3_1)), (4, iv (v4_1))]) rfl ?_
      refine r_aload_n X 1 dX6_nextMonth_30 rfl rfl ?_
      refine r_getA (kf := 23) X ho0.1 rfl (by decide) (by decide) (Or.inl q1264) dX6_nextMonth_31 ?_
      refine r_bipush X dX6_nextMonth_34 (by decide) ?_
      refine r_iload_n X 2 dX6_nextMonth_36 rfl rfl ?_
      refine r_imul X dX6_nextMonth_37 ?_
      refine r_iload X 5 dX6_nextMonth_38 rfl ?_
      refine r_iadd X dX6_nextMonth_40 ?_
      refine r_iald X ho0.1 (ho0.2 23 (by decide)) rfl rfl rfl (by decide) dX6_nextMonth_41 h (fun h => ?_)
      refine r_istore X dX6_nextMonth_42 (hL 6 (by decide)) (lv' := [(6, iv ((gI (σ) (a0) 23 (((12 * x1) + v4_1))))), (5, iv ((gI (σ) (a0) 22 (((12 * x1) + v4_1))))), (0, .ref (a0)), (1, iv (x1)), (2, iv (x2)), (3, iv (v3_1)), (4, iv (v4_1))]) rfl ?_
      refine r_iload X 1 dX6_nextMonth_44 rfl ?_
      refine r_iload_n X 4 dX6_nextMonth_46 rfl rfl ?_
      refine r_icmp_ne (tgt := 55) X dX6_nextMonth_47 (by decide) h (fun c7 h => ?_) (fun c7 h => ?_)
      · refine r_iload X 0 dX6_nextMonth_50 rfl ?_
        refine r_goto (tgt := 67) X dX6_nextMonth_52 (by decide) ?_
        exact V.sub [2, 3, 4, 5, 6] rfl (J67 (v3_1) (v4_1) ((gI (σ) (a0) 23 (((12 * x1) + v4_1)))) h)
      · refine r_iload X 0 dX6_nextMonth_55 rfl ?_
        refine r_iload_n X 4 dX6_nextMonth_57 rfl rfl ?_
        refine r_icmp_ne (tgt := 66) X dX6_nextMonth_58 (by decide) h (fun c8 h => ?_) (fun c8 h => ?_)
        · refine r_iload X 1 dX6_nextMonth_61 rfl ?_
          refine r_goto (tgt := 67) X dX6_nextMonth_63 (by decide) ?_
          exact V.sub [2, 3, 4, 5, 6] rfl (J67 (v3_1) (v4_1) ((gI (σ) (a0) 22 (((12 * x1) + v4_1)))) h)
        · refine r_iconst X dX6_nextMonth_66 ?_
          exact V.sub [2, 3, 4, 5, 6] rfl (J67 (v3_1) (v4_1) ((-1)) h)
    · have h := ex_some h ihe1
      refine r_iload_n X 3 dX6_nextMonth_142 rfl rfl ?_
      cases h
      exact r_iret X hr dX6_nextMonth_143
  exact V.sub [2, 3, 4, 1, 0] rfl (L5 ((-1), 0) h)
theorem hy_X6_goes : yX6_goes.cls ≠ "java/lang/invoke/MethodHandle" ∧ yX6_goes.cls ≠ "java/lang/invoke/VarHandle" ∧ (parseMethodDescriptor yX6_goes.desc).map (fun d => d.parameters.length) = some 4 := by decide +kernel
set_option maxHeartbeats 4000000 in
theorem w_X6_goes (l : Launch) (D : DD) (sz : Nat) {σ : St} {a0 : Nat} {x1 : Int} {x2 : Int} {x3 : Int} {x4 : Int} {w : Int × St} (h : f_X6_goes σ a0 x1 x2 x3 x4 = some w) : Mt l yX6_goes cX6_goes 6 (some FieldType.boolean) ({ frames := 4, cells := 0, slots := 0, locals := 65 } : Room) D sz σ [.ref a0, iv (x1), iv (x2), iv (x3), iv (x4)] (.returned (some (iv w.1))) (w.2) 0 0 := by
  refine Mt.of (by decide +kernel) (Nat.le_of_ble_eq_true rfl) ?_
  intro Γ X hr hnl hini hnoh
  have X : Cx Γ cX6_goes "DayBoyModel" _ := X
  have hL : ∀ i, i < 6 → i < nLc Γ := fun i q => by rw [hnl]; exact q
  show V Γ σ 0 0 0 [(0, .ref (a0)), (1, iv (x1)), (2, iv (x2)), (3, iv (x3)), (4, iv (x4))] []
  unfold f_X6_goes at h
  obtain ⟨ho0, h⟩ := cO_some h
  refine r_aload_n X 0 dX6_goes_0 rfl rfl ?_
  refine r_getA (kf := 30) X ho0.1 rfl (by decide) (by decide) (Or.inl q1271) dX6_goes_1 ?_
  refine r_sipush X dX6_goes_4 (by decide) ?_
  refine r_iload_n X 1 dX6_goes_7 rfl rfl ?_
  refine r_imul X dX6_goes_8 ?_
  refine r_iload_n X 3 dX6_goes_9 rfl rfl ?_
  refine r_iadd X dX6_goes_10 ?_
  refine r_lald X ho0.1 (ho0.2 30 (by decide)) rfl rfl rfl (by decide) dX6_goes_11 h (fun h => ?_)
  refine r_ldc2 (z := 1152921504606846976) X q1589 dX6_goes_12 rfl ?_
  refine r_lcmp_ge (tgt := 38) X dX6_goes_15 dX6_goes_16 (by decide) h (fun c1 h => ?_) (fun c1 h => ?_)
  · refine r_aload_n X 0 dX6_goes_19 rfl rfl ?_
    refine r_getA (kf := 31) X ho0.1 rfl (by decide) (by decide) (Or.inl q1272) dX6_goes_20 ?_
    refine r_bipush X dX6_goes_23 (by decide) ?_
    refine r_iload_n X 1 dX6_goes_25 rfl rfl ?_
    refine r_imul X dX6_goes_26 ?_
    refine r_iload X 4 dX6_goes_27 rfl ?_
    refine r_iadd X dX6_goes_29 ?_
    refine r_lald X ho0.1 (ho0.2 31 (by decide)) rfl rfl rfl (by decide) dX6_goes_30 h (fun h => ?_)
    refine r_ldc2 (z := 1152921504606846976) X q1589 dX6_goes_31 rfl ?_
    refine r_lcmp_lt (tgt := 40) X dX6_goes_34 dX6_goes_35 (by decide) h (fun c2 h => ?_) (fun c2 h => ?_)
    · refine r_aload_n X 0 dX6_goes_40 rfl rfl ?_
      refine r_iconst X dX6_goes_41 ?_
      refine r_putI (kf := 38) X ho0.1 rfl (by decide) rfl rfl (Or.inl q1279) dX6_goes_42 rfl ?_
      refine r_let h (fun σ3 eσ3 h => ?_)
      refine r_iload_n X 3 dX6_goes_45 rfl rfl ?_
      refine r_istore X dX6_goes_46 (hL 5 (by decide)) (lv' := [(5, iv (x3)), (0, .ref (a0)), (1, iv (x1)), (2, iv (x2)), (3, iv (x3)), (4, iv (x4))]) rfl ?_
      have L48 : ∀ s : Int × St, lp (fun s => f_X6_goes_b48 (a0) (x1) (x2) (x4) s.1 s.2) s = some w → V Γ (s.2) 0 0 48 [(0, .ref (a0)), (1, iv (x1)), (2, iv (x2)), (4, iv (x4)), (5, iv (s.1))] [] := by
        refine lp_rule (P := fun s : Int × St => V Γ (s.2) 0 0 48 [(0, .ref (a0)), (1, iv (x1)), (2, iv (x2)), (4, iv (x4)), (5, iv (s.1))] []) ?_
        intro s z1 h ihb1 ihe1
        obtain ⟨v5_1, σ_1⟩ := s
        have h : f_X6_goes_b48 (a0) (x1) (x2) (x4) v5_1 σ_1 = some z1 := h
        unfold f_X6_goes_b48 at h
        show V Γ σ_1 0 0 48 [(0, .ref (a0)), (1, iv (x1)), (2, iv (x2)), (4, iv (x4)), (5, iv (v5_1))] []
        refine r_iload X 4 dX6_goes_48 rfl ?_
        refine r_iconst X dX6_goes_50 ?_
        refine r_icmp_eq (tgt := 109) X dX6_goes_51 (by decide) h (fun c4 h => ?_) (fun c4 h => ?_)
        · have h := ex_some h ihe1
          refine r_aload_n X 0 dX6_goes_109 rfl rfl ?_
          refine r_iconst X dX6_goes_110 ?_
          obtain ⟨ho5, h⟩ := cO_some h
          refine r_putI (kf := 39) X ho5.1 rfl (by decide) rfl rfl (Or.inl q1280) dX6_goes_111 rfl ?_
          refine r_let h (fun σ6 eσ6 h => ?_)
          refine r_iload X 3 dX6_goes_114 rfl ?_
          refine r_istore X dX6_goes_116 (hL 5 (by decide)) (lv' := [(5, iv (x4)), (0, .ref (a0)), (1, iv (x1)), (2, iv (x2)), (4, iv (x4))]) rfl ?_
          have L118 : ∀ s : Int × St, lp (fun s => f_X6_goes_b118 (a0) (x1) (x2) s.1 s.2) s = some w → V Γ (s.2) 0 0 118 [(0, .ref (a0)), (1, iv (x1)), (2, iv (x2)), (5, iv (s.1))] [] := by
            refine lp_rule (P := fun s : Int × St => V Γ (s.2) 0 0 118 [(0, .ref (a0)), (1, iv (x1)), (2, iv (x2)), (5, iv (s.1))] []) ?_
            intro s z1 h ihb1 ihe1
            obtain ⟨v5_1, σ_1⟩ := s
            have h : f_X6_goes_b118 (a0) (x1) (x2) v5_1 σ_1 = some z1 := h
            unfold f_X6_goes_b118 at h
            show V Γ σ_1 0 0 118 [(0, .ref (a0)), (1, iv (x1)), (2, iv (x2)), (5, iv (v5_1))] []
            refine r_iload X 3 dX6_goes_118 rfl ?_
            refine r_iconst X dX6_goes_120 ?_
            refine r_icmp_eq (tgt := 178) X dX6_goes_121 (by decide) h (fun c7 h => ?_) (fun c7 h => ?_)
            · have h := ex_some h ihe1
              refine r_aload_n X 0 dX6_goes_178 rfl rfl ?_
              refine r_iload_n X 2 dX6_goes_179 rfl rfl ?_
              refine r_aload_n X 0 dX6_goes_180 rfl rfl ?_
              obtain ⟨ho8, h⟩ := cO_some h
              refine r_getA (kf := 36) X ho8.1 rfl (by decide) (by decide) (Or.inl q1277) dX6_goes_181 ?_
              refine r_aload_n X 0 dX6_goes_184 rfl rfl ?_
              refine r_getI (kf := 38) X ho8.1 rfl (by decide) rfl (Or.inl q1279) dX6_goes_185 ?_
              refine r_iconst X dX6_goes_188 ?_
              refine r_isub X dX6_goes_189 ?_
              refine r_iald X ho8.1 (ho8.2 36 (by decide)) rfl rfl rfl (by decide) dX6_goes_190 h (fun h => ?_)
              refine r_aload_n X 0 dX6_goes_191 rfl rfl ?_
              refine r_getA (kf := 37) X ho8.1 rfl (by decide) (by decide) (Or.inl q1278) dX6_goes_192 ?_
              refine r_aload_n X 0 dX6_goes_195 rfl rfl ?_
              refine r_getI (kf := 39) X ho8.1 rfl (by decide) rfl (Or.inl q1280) dX6_goes_196 ?_
              refine r_iconst X dX6_goes_199 ?_
              refine r_isub X dX6_goes_200 ?_
              refine r_iald X ho8.1 (ho8.2 37 (by decide)) rfl rfl rfl (by decide) dX6_goes_201 h (fun h => ?_)
              refine r_iconst X dX6_goes_202 ?_
              obtain ⟨r10, h9, h⟩ := bd_some h
              refine r_cV (Wd := 0) X (fun l D sz => w_X6_isDate l D sz h9) ho8.1 rfl q1614 qs73 q1612 q109 q1615 hy_X6_isDate rfl dX6_goes_203 rfl rfl (Nat.le_of_ble_eq_true rfl) ⟨Nat.le_of_ble_eq_true rfl, Nat.le_of_ble_eq_true rfl⟩ ⟨Nat.le_of_ble_eq_true rfl, Nat.le_of_ble_eq_true rfl⟩ ?_
              obtain ⟨c11, h⟩ := ck_some h
              cases h
              exact r_zret X hr (c11) dX6_goes_206
            · refine r_aload_n X 0 dX6_goes_124 rfl rfl ?_
              obtain ⟨ho12, h⟩ := cO_some h
              refine r_getA (kf := 37) X ho12.1 rfl (by decide) (by decide) (Or.inl q1278) dX6_goes_125 ?_
              refine r_aload_n X 0 dX6_goes_128 rfl rfl ?_
              refine r_getI (kf := 39) X ho12.1 rfl (by decide) rfl (Or.inl q1280) dX6_goes_129 ?_
              refine r_iload X 3 dX6_goes_132 rfl ?_
              refine r_iast X ho12.1 (ho12.2 37 (by decide)) rfl rfl rfl (by decide) dX6_goes_134 h (fun h => ?_)
              refine r_let h (fun σ13 eσ13 h => ?_)
              refine r_aload_n X 0 dX6_goes_135 rfl rfl ?_
              refine r_dup X dX6_goes_136 rfl ?_
              have hk14 : oc σ13 (a0) 5 := by rw [eσ13]; exact ho12
              refine r_getI (kf := 39) X hk14.1 rfl (by decide) rfl (Or.inl q1280) dX6_goes_137 ?_
              refine r_iconst X dX6_goes_140 ?_
              refine r_iadd X dX6_goes_141 ?_
              refine r_putI (kf := 39) X hk14.1 rfl (by decide) rfl rfl (Or.inl q1280) dX6_goes_142 rfl ?_
              refine r_let h (fun σ15 eσ15 h => ?_)
              refine r_aload_n X 0 dX6_goes_145 rfl rfl ?_
              have hk16 : oc σ15 (a0) 5 := by rw [eσ15]; exact hk14
              refine r_getA (kf := 31) X hk16.1 rfl (by decide) (by decide) (Or.inl q1272) dX6_goes_146 ?_
              refine r_bipush X dX6_goes_149 (by decide) ?_
              refine r_iload_n X 1 dX6_goes_151 rfl rfl ?_
              refine r_imul X dX6_goes_152 ?_
              refine r_iload X 3 dX6_goes_153 rfl ?_
              refine r_iadd X dX6_goes_155 ?_
              refine r_lald X hk16.1 (hk16.2 31 (by decide)) rfl rfl rfl (by decide) dX6_goes_156 h (fun h => ?_)
              refine r_lconst (y := 0) X dX6_goes_157 rfl ?_
              refine r_lcmp_ne (tgt := 166) X dX6_goes_158 dX6_goes_159 (by decide) h (fun c17 h => ?_) (fun c17 h => ?_)
              · refine r_iconst X dX6_goes_162 ?_
                refine r_goto (tgt := 173) X dX6_goes_163 (by decide) ?_
                refine r_istore X dX6_goes_173 (hL 5 (by decide)) (lv' := [(5, iv ((-1))), (0, .ref (a0)), (1, iv (x1)), (2, iv (x2))]) rfl ?_
                refine r_goto (tgt := 118) X dX6_goes_175 (by decide) ?_
                exact V.sub [1, 2, 3, 0] rfl (ihb1 _ (Option.some.inj h).symm)
              · refine r_aload_n X 0 dX6_goes_166 rfl rfl ?_
                refine r_iload_n X 1 dX6_goes_167 rfl rfl ?_
                refine r_iload X 3 dX6_goes_168 rfl ?_
                obtain ⟨r19, h18, h⟩ := bd_some h
                refine r_cV (Wd := 0) X (fun l D sz => w_X6_nextMonth l D sz h18) hk16.1 rfl q1674 qs82 q1672 q109 q1675 hy_X6_nextMonth rfl dX6_goes_170 rfl rfl (Nat.le_of_ble_eq_true rfl) ⟨Nat.le_of_ble_eq_true rfl, Nat.le_of_ble_eq_true rfl⟩ ⟨Nat.le_of_ble_eq_true rfl, Nat.le_of_ble_eq_true rfl⟩ ?_
                refine r_istore X dX6_goes_173 (hL 5 (by decide)) (lv' := [(5, iv (r19)), (0, .ref (a0)), (1, iv (x1)), (2, iv (x2))]) rfl ?_
                refine r_goto (tgt := 118) X dX6_goes_175 (by decide) ?_
                exact V.sub [1, 2, 3, 0] rfl (ihb1 _ (Option.some.inj h).symm)
          exact V.sub [1, 2, 3, 0] rfl (L118 (x4, σ6) h)
        · refine r_aload_n X 0 dX6_goes_54 rfl rfl ?_
          obtain ⟨ho20, h⟩ := cO_some h
          refine r_getA (kf := 36) X ho20.1 rfl (by decide) (by decide) (Or.inl q1277) dX6_goes_55 ?_
          refine r_aload_n X 0 dX6_goes_58 rfl rfl ?_
          refine r_getI (kf := 38) X ho20.1 rfl (by decide) rfl (Or.inl q1279) dX6_goes_59 ?_
          refine r_iload X 4 dX6_goes_62 rfl ?_
          refine r_iast X ho20.1 (ho20.2 36 (by decide)) rfl rfl rfl (by decide) dX6_goes_64 h (fun h => ?_)
          refine r_let h (fun σ21 eσ21 h => ?_)
          refine r_aload_n X 0 dX6_goes_65 rfl rfl ?_
          refine r_dup X dX6_goes_66 rfl ?_
          have hk22 : oc σ21 (a0) 5 := by rw [eσ21]; exact ho20
          refine r_getI (kf := 38) X hk22.1 rfl (by decide) rfl (Or.inl q1279) dX6_goes_67 ?_
          refine r_iconst X dX6_goes_70 ?_
          refine r_iadd X dX6_goes_71 ?_
          refine r_putI (kf := 38) X hk22.1 rfl (by decide) rfl rfl (Or.inl q1279) dX6_goes_72 rfl ?_
          refine r_let h (fun σ23 eσ23 h => ?_)
          refine r_aload_n X 0 dX6_goes_75 rfl rfl ?_
          have hk24 : oc σ23 (a0) 5 := by rw [eσ23]; exact hk22
          refine r_getA (kf := 30) X hk24.1 rfl (by decide) (by decide) (Or.inl q1271) dX6_goes_76 ?_
          refine r_sipush X dX6_goes_79 (by decide) ?_
          refine r_iload_n X 1 dX6_goes_82 rfl rfl ?_
          refine r_imul X dX6_goes_83 ?_
          refine r_iload X 4 dX6_goes_84 rfl ?_
          refine r_iadd X dX6_goes_86 ?_
          refine r_lald X hk24.1 (hk24.2 30 (by decide)) rfl rfl rfl (by decide) dX6_goes_87 h (fun h => ?_)
          refine r_lconst (y := 0) X dX6_goes_88 rfl ?_
          refine r_lcmp_ne (tgt := 97) X dX6_goes_89 dX6_goes_90 (by decide) h (fun c25 h => ?_) (fun c25 h => ?_)
          · refine r_iconst X dX6_goes_93 ?_
            refine r_goto (tgt := 104) X dX6_goes_94 (by decide) ?_
            refine r_istore X dX6_goes_104 (hL 5 (by decide)) (lv' := [(5, iv ((-1))), (0, .ref (a0)), (1, iv (x1)), (2, iv (x2)), (4, iv (x4))]) rfl ?_
            refine r_goto (tgt := 48) X dX6_goes_106 (by decide) ?_
            exact V.sub [1, 2, 3, 4, 0] rfl (ihb1 _ (Option.some.inj h).symm)
          · refine r_aload_n X 0 dX6_goes_97 rfl rfl ?_
            refine r_iload_n X 1 dX6_goes_98 rfl rfl ?_
            refine r_iload X 4 dX6_goes_99 rfl ?_
            obtain ⟨r27, h26, h⟩ := bd_some h
            refine r_cV (Wd := 0) X (fun l D sz => w_X6_nextYear l D sz h26) hk24.1 rfl q1670 qs81 q1668 q109 q1671 hy_X6_nextYear rfl dX6_goes_101 rfl rfl (Nat.le_of_ble_eq_true rfl) ⟨Nat.le_of_ble_eq_true rfl, Nat.le_of_ble_eq_true rfl⟩ ⟨Nat.le_of_ble_eq_true rfl, Nat.le_of_ble_eq_true rfl⟩ ?_
            refine r_istore X dX6_goes_104 (hL 5 (by decide)) (lv' := [(5, iv (r27)), (0, .ref (a0)), (1, iv (x1)), (2, iv (x2)), (4, iv (x4))]) rfl ?_
            refine r_goto (tgt := 48) X dX6_goes_106 (by decide) ?_
            exact V.sub [1, 2, 3, 4, 0] rfl (ihb1 _ (Option.some.inj h).symm)
      exact V.sub [1, 2, 3, 5, 0] rfl (L48 (x3, σ3) h)
    · refine r_iconst X dX6_goes_38 ?_
      cases h
      exact r_zret X hr (by decide) dX6_goes_39
  · refine r_iconst X dX6_goes_38 ?_
    cases h
    exact r_zret X hr (by decide) dX6_goes_39
theorem hy_X6_way : yX6_way.cls ≠ "java/lang/invoke/MethodHandle" ∧ yX6_way.cls ≠ "java/lang/invoke/VarHandle" ∧ (parseMethodDescriptor yX6_way.desc).map (fun d => d.parameters.length) = some 7 := by decide +kernel
set_option maxHeartbeats 4000000 in
theorem w_X6_way (l : Launch) (D : DD) (sz : Nat) {σ : St} {a0 : Nat} {x1 : Int} {x2 : Int} {x3 : Int} {x4 : Int} {x5 : Int} {x6 : Int} {x7 : Int} {w : Int × St} (h : f_X6_way σ a0 x1 x2 x3 x4 x5 x6 x7 = some w) : Mt l yX6_way cX6_way 9 (some FieldType.int) ({ frames := 5, cells := 0, slots := 0, locals := 82 } : Room) D sz σ [.ref a0, iv (x1), iv (x2), iv (x3), iv (x4), iv (x5), iv (x6), iv (x7)] (.returned (some (iv w.1))) (w.2) 0 0 := by
  refine Mt.of (by decide +kernel) (Nat.le_of_ble_eq_true rfl) ?_
  intro Γ X hr hnl hini hnoh
  have X : Cx Γ cX6_way "DayBoyModel" _ := X
  have hL : ∀ i, i < 9 → i < nLc Γ := fun i q => by rw [hnl]; exact q
  show V Γ σ 0 0 0 [(0, .ref (a0)), (1, iv (x1)), (2, iv (x2)), (3, iv (x3)), (4, iv (x4)), (5, iv (x5)), (6, iv (x6)), (7, iv (x7))] []
  unfold f_X6_way at h
  obtain ⟨ho0, h⟩ := cO_some h
  have J61 : ∀ (t0_j61 : Int) (σ_j61 : St), f_X6_way_j61 (a0) (x6) (x7) t0_j61 σ_j61 = some w → V Γ σ_j61 0 0 61 [(0, .ref (a0)), (6, iv (x6)), (7, iv (x7))] [iv (t0_j61)] := by
    intro t0_j61 σ_j61 h
    unfold f_X6_way_j61 at h
    refine r_istore X dX6_way_61 (hL 8 (by decide)) (lv' := [(8, iv (t0_j61)), (0, .ref (a0)), (6, iv (x6)), (7, iv (x7))]) rfl ?_
    refine r_iload X 3 dX6_way_63 rfl ?_
    refine r_iconst X dX6_way_65 ?_
    refine r_icmp_ne (tgt := 74) X dX6_way_66 (by decide) h (fun c1 h => ?_) (fun c1 h => ?_)
    · refine r_iload X 0 dX6_way_69 rfl ?_
      refine r_iconst X dX6_way_71 ?_
      refine r_isub X dX6_way_72 ?_
      cases h
      exact r_iret X hr dX6_way_73
    · refine r_iload X 3 dX6_way_74 rfl ?_
      refine r_iconst X dX6_way_76 ?_
      refine r_iload X 0 dX6_way_77 rfl ?_
      refine r_iconst X dX6_way_79 ?_
      refine r_isub X dX6_way_80 ?_
      obtain ⟨r3, h2, h⟩ := bd_some h
      refine r_cS (Wd := 0) X (fun l D sz => w_X6_in l D sz h2) q1502 q1501 q109 q1503 hy_X6_in rfl dX6_way_81 rfl rfl (Nat.le_of_ble_eq_true rfl) ⟨Nat.le_of_ble_eq_true rfl, Nat.le_of_ble_eq_true rfl⟩ ⟨Nat.le_of_ble_eq_true rfl, Nat.le_of_ble_eq_true rfl⟩ ?_
      refine r_if_eq (tgt := 112) X dX6_way_84 (by decide) h (fun c4 h => ?_) (fun c4 h => ?_)
      · refine r_iconst X dX6_way_112 ?_
        cases h
        exact r_iret X hr dX6_way_113
      · refine r_iload X 2 dX6_way_87 rfl ?_
        refine r_if_ne (tgt := 102) X dX6_way_89 (by decide) h (fun c5 h => ?_) (fun c5 h => ?_)
        · refine r_aload_n X 1 dX6_way_92 rfl rfl ?_
          obtain ⟨ho6, h⟩ := cO_some h
          refine r_getA (kf := 36) X ho6.1 rfl (by decide) (by decide) (Or.inl q1277) dX6_way_93 ?_
          refine r_iload X 3 dX6_way_96 rfl ?_
          refine r_iald X ho6.1 (ho6.2 36 (by decide)) rfl rfl rfl (by decide) dX6_way_98 h (fun h => ?_)
          refine r_goto (tgt := 113) X dX6_way_99 (by decide) ?_
          cases h
          exact r_iret X hr dX6_way_113
        · refine r_aload_n X 1 dX6_way_102 rfl rfl ?_
          obtain ⟨ho7, h⟩ := cO_some h
          refine r_getA (kf := 37) X ho7.1 rfl (by decide) (by decide) (Or.inl q1278) dX6_way_103 ?_
          refine r_iload X 3 dX6_way_106 rfl ?_
          refine r_iald X ho7.1 (ho7.2 37 (by decide)) rfl rfl rfl (by decide) dX6_way_108 h (fun h => ?_)
          refine r_goto (tgt := 113) X dX6_way_109 (by decide) ?_
          cases h
          exact r_iret X hr dX6_way_113
  refine r_aload_n X 0 dX6_way_0 rfl rfl ?_
  refine r_iload_n X 1 dX6_way_1 rfl rfl ?_
  obtain ⟨r9, h8, h⟩ := bd_some h
  refine r_cV (Wd := 0) X (fun l D sz => w_X6_isHead l D sz h8) ho0.1 rfl q1662 qs79 q1660 q109 q1663 hy_X6_isHead rfl dX6_way_2 rfl rfl (Nat.le_of_ble_eq_true rfl) ⟨Nat.le_of_ble_eq_true rfl, Nat.le_of_ble_eq_true rfl⟩ ⟨Nat.le_of_ble_eq_true rfl, Nat.le_of_ble_eq_true rfl⟩ ?_
  refine r_if_eq (tgt := 43) X dX6_way_5 (by decide) h (fun c10 h => ?_) (fun c10 h => ?_)
  · refine r_iconst X dX6_way_43 ?_
    cases h
    exact r_iret X hr dX6_way_44
  · refine r_aload_n X 0 dX6_way_8 rfl rfl ?_
    refine r_iload_n X 2 dX6_way_9 rfl rfl ?_
    refine r_iload_n X 3 dX6_way_10 rfl rfl ?_
    refine r_iload X 4 dX6_way_11 rfl ?_
    refine r_iload X 5 dX6_way_13 rfl ?_
    obtain ⟨r12, h11, h⟩ := bd_some h
    refine r_cV (Wd := 0) X (fun l D sz => w_X6_isDate l D sz h11) ho0.1 rfl q1614 qs73 q1612 q109 q1615 hy_X6_isDate rfl dX6_way_15 rfl rfl (Nat.le_of_ble_eq_true rfl) ⟨Nat.le_of_ble_eq_true rfl, Nat.le_of_ble_eq_true rfl⟩ ⟨Nat.le_of_ble_eq_true rfl, Nat.le_of_ble_eq_true rfl⟩ ?_
    refine r_if_eq (tgt := 43) X dX6_way_18 (by decide) h (fun c13 h => ?_) (fun c13 h => ?_)
    · refine r_iconst X dX6_way_43 ?_
      cases h
      exact r_iret X hr dX6_way_44
    · refine r_iload X 6 dX6_way_21 rfl ?_
      refine r_iconst X dX6_way_23 ?_
      refine r_iconst X dX6_way_24 ?_
      obtain ⟨r15, h14, h⟩ := bd_some h
      refine r_cS (Wd := 0) X (fun l D sz => w_X6_in l D sz h14) q1502 q1501 q109 q1503 hy_X6_in rfl dX6_way_25 rfl rfl (Nat.le_of_ble_eq_true rfl) ⟨Nat.le_of_ble_eq_true rfl, Nat.le_of_ble_eq_true rfl⟩ ⟨Nat.le_of_ble_eq_true rfl, Nat.le_of_ble_eq_true rfl⟩ ?_
      refine r_if_eq (tgt := 43) X dX6_way_28 (by decide) h (fun c16 h => ?_) (fun c16 h => ?_)
      · refine r_iconst X dX6_way_43 ?_
        cases h
        exact r_iret X hr dX6_way_44
      · refine r_aload_n X 0 dX6_way_31 rfl rfl ?_
        refine r_iload_n X 1 dX6_way_32 rfl rfl ?_
        refine r_iload_n X 2 dX6_way_33 rfl rfl ?_
        refine r_iload_n X 3 dX6_way_34 rfl rfl ?_
        refine r_iload X 4 dX6_way_35 rfl ?_
        obtain ⟨r18, σ19, h17, h⟩ := bd2_some h
        refine r_cV (Wd := 0) X (fun l D sz => w_X6_goes l D sz h17) ho0.1 rfl q1666 qs80 q1664 q109 q1667 hy_X6_goes rfl dX6_way_37 rfl rfl (Nat.le_of_ble_eq_true rfl) ⟨Nat.le_of_ble_eq_true rfl, Nat.le_of_ble_eq_true rfl⟩ ⟨Nat.le_of_ble_eq_true rfl, Nat.le_of_ble_eq_true rfl⟩ ?_
        refine r_if_ne (tgt := 45) X dX6_way_40 (by decide) h (fun c20 h => ?_) (fun c20 h => ?_)
        · refine r_iconst X dX6_way_43 ?_
          cases h
          exact r_iret X hr dX6_way_44
        · refine r_iload X 6 dX6_way_45 rfl ?_
          refine r_if_ne (tgt := 57) X dX6_way_47 (by decide) h (fun c21 h => ?_) (fun c21 h => ?_)
          · refine r_aload_n X 0 dX6_way_50 rfl rfl ?_
            obtain ⟨ho22, h⟩ := cO_some h
            refine r_getI (kf := 38) X ho22.1 rfl (by decide) rfl (Or.inl q1279) dX6_way_51 ?_
            refine r_goto (tgt := 61) X dX6_way_54 (by decide) ?_
            exact V.sub [0, 6, 7] rfl (J61 ((gI (σ19) (a0) 38 0)) (σ19) h)
          · refine r_aload_n X 0 dX6_way_57 rfl rfl ?_
            obtain ⟨ho23, h⟩ := cO_some h
            refine r_getI (kf := 39) X ho23.1 rfl (by decide) rfl (Or.inl q1280) dX6_way_58 ?_
            exact V.sub [0, 6, 7] rfl (J61 ((gI (σ19) (a0) 39 0)) (σ19) h)
theorem hy_X6_answer : yX6_answer.cls ≠ "java/lang/invoke/MethodHandle" ∧ yX6_answer.cls ≠ "java/lang/invoke/VarHandle" ∧ (parseMethodDescriptor yX6_answer.desc).map (fun d => d.parameters.length) = some 5 := by decide +kernel
set_option maxHeartbeats 4000000 in
theorem w_X6_answer (l : Launch) (D : DD) (sz : Nat) {σ : St} {a0 : Nat} {x1 : Int} {x2 : Int} {x3 : Int} {x4 : Int} {x5 : Int} {w : Int × St} (h : f_X6_answer σ a0 x1 x2 x3 x4 x5 = some w) : Mt l yX6_answer cX6_answer 8 (some FieldType.boolean) ({ frames := 5, cells := 0, slots := 0, locals := 82 } : Room) D sz σ [.ref a0, iv (x1), iv (x2), iv (x3), iv (x4), iv (x5)] (.returned (some (iv w.1))) (w.2) 0 0 := by
  refine Mt.of (by decide +kernel) (Nat.le_of_ble_eq_true rfl) ?_
  intro Γ X hr hnl hini hnoh
  have X : Cx Γ cX6_answer "DayBoyModel" _ := X
  have hL : ∀ i, i < 8 → i < nLc Γ := fun i q => by rw [hnl]; exact q
  show V Γ σ 0 0 0 [(0, .ref (a0)), (1, iv (x1)), (2, iv (x2)), (3, iv (x3)), (4, iv (x4)), (5, iv (x5))] []
  unfold f_X6_answer at h
  obtain ⟨ho0, h⟩ := cO_some h
  have J171 : ∀ (t0_j171 : Int) (t1_j171 : Int) (t2_j171 : Nat) (σ_j171 : St), f_X6_answer_j171  t0_j171 t1_j171 t2_j171 σ_j171 = some w → V Γ σ_j171 0 0 171 [] [iv (t0_j171), iv (t1_j171), .ref (t2_j171)] := by
    intro t0_j171 t1_j171 t2_j171 σ_j171 h
    unfold f_X6_answer_j171 at h
    refine r_iadd X dX6_answer_171 ?_
    obtain ⟨ho1, h⟩ := cO_some h
    refine r_putI (kf := 41) X ho1.1 rfl (by decide) rfl rfl (Or.inl q1282) dX6_answer_172 rfl ?_
    refine r_let h (fun σ2 eσ2 h => ?_)
    refine r_iconst X dX6_answer_175 ?_
    cases h
    exact r_zret X hr (by decide) dX6_answer_176
  refine r_aload_n X 0 dX6_answer_0 rfl rfl ?_
  refine r_iload_n X 1 dX6_answer_1 rfl rfl ?_
  refine r_iload_n X 2 dX6_answer_2 rfl rfl ?_
  refine r_iload_n X 3 dX6_answer_3 rfl rfl ?_
  refine r_iload X 4 dX6_answer_4 rfl ?_
  obtain ⟨r5, σ6, h4, h⟩ := bd2_some h
  refine r_cV (Wd := 0) X (fun l D sz => w_X6_goes l D sz h4) ho0.1 rfl q1666 qs80 q1664 q109 q1667 hy_X6_goes rfl dX6_answer_6 rfl rfl (Nat.le_of_ble_eq_true rfl) ⟨Nat.le_of_ble_eq_true rfl, Nat.le_of_ble_eq_true rfl⟩ ⟨Nat.le_of_ble_eq_true rfl, Nat.le_of_ble_eq_true rfl⟩ ?_
  refine r_if_ne (tgt := 14) X dX6_answer_9 (by decide) h (fun c7 h => ?_) (fun c7 h => ?_)
  · refine r_iconst X dX6_answer_12 ?_
    cases h
    exact r_zret X hr (by decide) dX6_answer_13
  · refine r_aload_n X 0 dX6_answer_14 rfl rfl ?_
    obtain ⟨ho9, h⟩ := cO_some h
    refine r_getA (kf := 36) X ho9.1 rfl (by decide) (by decide) (Or.inl q1277) dX6_answer_15 ?_
    refine r_aload_n X 0 dX6_answer_18 rfl rfl ?_
    refine r_getI (kf := 38) X ho9.1 rfl (by decide) rfl (Or.inl q1279) dX6_answer_19 ?_
    refine r_iconst X dX6_answer_22 ?_
    refine r_isub X dX6_answer_23 ?_
    refine r_iald X ho9.1 (ho9.2 36 (by decide)) rfl rfl rfl (by decide) dX6_answer_24 h (fun h => ?_)
    refine r_istore X dX6_answer_25 (hL 6 (by decide)) (lv' := [(6, iv ((gI (σ6) (a0) 36 (((gI (σ6) (a0) 38 0) - 1))))), (0, .ref (a0)), (1, iv (x1)), (2, iv (x2)), (3, iv (x3)), (4, iv (x4)), (5, iv (x5))]) rfl ?_
    refine r_aload_n X 1 dX6_answer_27 rfl rfl ?_
    refine r_aload_n X 1 dX6_answer_28 rfl rfl ?_
    refine r_iload_n X 3 dX6_answer_29 rfl rfl ?_
    refine r_iload X 0 dX6_answer_30 rfl ?_
    refine r_aload_n X 1 dX6_answer_32 rfl rfl ?_
    refine r_getA (kf := 37) X ho9.1 rfl (by decide) (by decide) (Or.inl q1278) dX6_answer_33 ?_
    refine r_aload_n X 1 dX6_answer_36 rfl rfl ?_
    refine r_getI (kf := 39) X ho9.1 rfl (by decide) rfl (Or.inl q1280) dX6_answer_37 ?_
    refine r_iconst X dX6_answer_40 ?_
    refine r_isub X dX6_answer_41 ?_
    refine r_iald X ho9.1 (ho9.2 37 (by decide)) rfl rfl rfl (by decide) dX6_answer_42 h (fun h => ?_)
    refine r_iconst X dX6_answer_43 ?_
    obtain ⟨r11, h10, h⟩ := bd_some h
    refine r_cV (Wd := 1) X (fun l D sz => w_X6_dayOf l D sz h10) ho9.1 rfl q1626 qs76 q1624 q109 q1627 hy_X6_dayOf rfl dX6_answer_44 rfl rfl (Nat.le_of_ble_eq_true rfl) ⟨Nat.le_of_ble_eq_true rfl, Nat.le_of_ble_eq_true rfl⟩ ⟨Nat.le_of_ble_eq_true rfl, Nat.le_of_ble_eq_true rfl⟩ ?_
    refine r_iload X 6 dX6_answer_47 rfl ?_
    refine r_iadd X dX6_answer_49 ?_
    refine r_iconst X dX6_answer_50 ?_
    refine r_isub X dX6_answer_51 ?_
    refine r_bipush X dX6_answer_52 (by decide) ?_
    obtain ⟨c12, h⟩ := ck_some h
    refine r_irem X dX6_answer_54 c12 (by decide) (by decide) ?_
    refine r_putI (kf := 40) X ho9.1 rfl (by decide) rfl rfl (Or.inl q1281) dX6_answer_55 rfl ?_
    refine r_let h (fun σ13 eσ13 h => ?_)
    refine r_aload_n X 1 dX6_answer_58 rfl rfl ?_
    have hk14 : oc σ13 (a0) 5 := by rw [eσ13]; exact ho9
    refine r_getA (kf := 30) X hk14.1 rfl (by decide) (by decide) (Or.inl q1271) dX6_answer_59 ?_
    refine r_sipush X dX6_answer_62 (by decide) ?_
    refine r_iload_n X 2 dX6_answer_65 rfl rfl ?_
    refine r_imul X dX6_answer_66 ?_
    refine r_iload_n X 4 dX6_answer_67 rfl rfl ?_
    refine r_iadd X dX6_answer_68 ?_
    refine r_lald X hk14.1 (hk14.2 30 (by decide)) rfl rfl rfl (by decide) dX6_answer_69 h (fun h => ?_)
    refine r_ldc2 (z := 100000) X q1606 dX6_answer_70 rfl ?_
    obtain ⟨c15, h⟩ := ck_some h
    refine r_ldiv X dX6_answer_73 c15 (by decide) (by decide) ?_
    refine r_aload_n X 1 dX6_answer_74 rfl rfl ?_
    refine r_getA (kf := 31) X hk14.1 rfl (by decide) (by decide) (Or.inl q1272) dX6_answer_75 ?_
    refine r_bipush X dX6_answer_78 (by decide) ?_
    refine r_iload_n X 2 dX6_answer_80 rfl rfl ?_
    refine r_imul X dX6_answer_81 ?_
    refine r_iload X 5 dX6_answer_82 rfl ?_
    refine r_iadd X dX6_answer_84 ?_
    refine r_lald X hk14.1 (hk14.2 31 (by decide)) rfl rfl rfl (by decide) dX6_answer_85 h (fun h => ?_)
    refine r_ldc2 (z := 100000) X q1606 dX6_answer_86 rfl ?_
    obtain ⟨c16, h⟩ := ck_some h
    refine r_ldiv X dX6_answer_89 c16 (by decide) (by decide) ?_
    refine r_ladd X dX6_answer_90 ?_
    refine r_l2i X dX6_answer_91 ?_
    refine r_istore X dX6_answer_92 (hL 7 (by decide)) (lv' := [(7, iv (((Int.tdiv ((gJ (σ13) (a0) 30 (((10001 * x1) + x3)))) (100000)) + (Int.tdiv ((gJ (σ13) (a0) 31 (((13 * x1) + x4)))) (100000))))), (6, iv ((gI (σ6) (a0) 36 (((gI (σ6) (a0) 38 0) - 1))))), (0, .ref (a0)), (1, iv (x1)), (2, iv (x2)), (3, iv (x3)), (4, iv (x4)), (5, iv (x5))]) rfl ?_
    refine r_aload_n X 2 dX6_answer_94 rfl rfl ?_
    refine r_aload_n X 2 dX6_answer_95 rfl rfl ?_
    refine r_getA (kf := 26) X hk14.1 rfl (by decide) (by decide) (Or.inl q1267) dX6_answer_96 ?_
    refine r_iconst X dX6_answer_99 ?_
    refine r_iload_n X 3 dX6_answer_100 rfl rfl ?_
    refine r_imul X dX6_answer_101 ?_
    refine r_iconst X dX6_answer_102 ?_
    refine r_iadd X dX6_answer_103 ?_
    refine r_iald X hk14.1 (hk14.2 26 (by decide)) rfl rfl rfl (by decide) dX6_answer_104 h (fun h => ?_)
    refine r_iload X 0 dX6_answer_105 rfl ?_
    refine r_iadd X dX6_answer_107 ?_
    refine r_aload_n X 2 dX6_answer_108 rfl rfl ?_
    refine r_getA (kf := 26) X hk14.1 rfl (by decide) (by decide) (Or.inl q1267) dX6_answer_109 ?_
    refine r_iconst X dX6_answer_112 ?_
    refine r_iload_n X 3 dX6_answer_113 rfl rfl ?_
    refine r_imul X dX6_answer_114 ?_
    refine r_iald X hk14.1 (hk14.2 26 (by decide)) rfl rfl rfl (by decide) dX6_answer_115 h (fun h => ?_)
    refine r_iload X 7 dX6_answer_116 rfl ?_
    refine r_iconst X dX6_answer_118 ?_
    refine r_isub X dX6_answer_119 ?_
    refine r_bipush X dX6_answer_120 (by decide) ?_
    obtain ⟨c17, h⟩ := ck_some h
    refine r_idiv X dX6_answer_122 c17 (by decide) (by decide) ?_
    refine r_imul X dX6_answer_123 ?_
    refine r_iadd X dX6_answer_124 ?_
    refine r_aload_n X 2 dX6_answer_125 rfl rfl ?_
    refine r_getA (kf := 26) X hk14.1 rfl (by decide) (by decide) (Or.inl q1267) dX6_answer_126 ?_
    refine r_iconst X dX6_answer_129 ?_
    refine r_iload_n X 3 dX6_answer_130 rfl rfl ?_
    refine r_imul X dX6_answer_131 ?_
    refine r_iconst X dX6_answer_132 ?_
    refine r_iadd X dX6_answer_133 ?_
    refine r_iald X hk14.1 (hk14.2 26 (by decide)) rfl rfl rfl (by decide) dX6_answer_134 h (fun h => ?_)
    refine r_iload X 7 dX6_answer_135 rfl ?_
    refine r_iconst X dX6_answer_137 ?_
    refine r_isub X dX6_answer_138 ?_
    refine r_bipush X dX6_answer_139 (by decide) ?_
    obtain ⟨c18, h⟩ := ck_some h
    refine r_irem X dX6_answer_141 c18 (by decide) (by decide) ?_
    refine r_imul X dX6_answer_142 ?_
    refine r_iadd X dX6_answer_143 ?_
    refine r_aload_n X 2 dX6_answer_144 rfl rfl ?_
    refine r_iload_n X 4 dX6_answer_145 rfl rfl ?_
    refine r_iload X 1 dX6_answer_146 rfl ?_
    refine r_iconst X dX6_answer_148 ?_
    refine r_bipush X dX6_answer_149 (by decide) ?_
    obtain ⟨r20, h19, h⟩ := bd_some h
    refine r_cV (Wd := 2) X (fun l D sz => w_X6_isDate l D sz h19) hk14.1 rfl q1614 qs73 q1612 q109 q1615 hy_X6_isDate rfl dX6_answer_151 rfl rfl (Nat.le_of_ble_eq_true rfl) ⟨Nat.le_of_ble_eq_true rfl, Nat.le_of_ble_eq_true rfl⟩ ⟨Nat.le_of_ble_eq_true rfl, Nat.le_of_ble_eq_true rfl⟩ ?_
    refine r_if_eq (tgt := 170) X dX6_answer_154 (by decide) h (fun c21 h => ?_) (fun c21 h => ?_)
    · refine r_iconst X dX6_answer_170 ?_
      exact V.sub [] rfl (J171 (0) (((((gI (σ13) (a0) 26 (((4 * x1) + 2))) + ((Int.tdiv ((gJ (σ13) (a0) 30 (((10001 * x1) + x3)))) (100000)) + (Int.tdiv ((gJ (σ13) (a0) 31 (((13 * x1) + x4)))) (100000)))) + ((gI (σ13) (a0) 26 ((4 * x1))) * (Int.tdiv ((x5 - 1)) (7)))) + ((gI (σ13) (a0) 26 (((4 * x1) + 1))) * (Int.tmod ((x5 - 1)) (7))))) (a0) (σ13) h)
    · refine r_aload_n X 2 dX6_answer_157 rfl rfl ?_
      refine r_getA (kf := 26) X hk14.1 rfl (by decide) (by decide) (Or.inl q1267) dX6_answer_158 ?_
      refine r_iconst X dX6_answer_161 ?_
      refine r_iload_n X 3 dX6_answer_162 rfl rfl ?_
      refine r_imul X dX6_answer_163 ?_
      refine r_iconst X dX6_answer_164 ?_
      refine r_iadd X dX6_answer_165 ?_
      refine r_iald X hk14.1 (hk14.2 26 (by decide)) rfl rfl rfl (by decide) dX6_answer_166 h (fun h => ?_)
      refine r_goto (tgt := 171) X dX6_answer_167 (by decide) ?_
      exact V.sub [] rfl (J171 ((gI (σ13) (a0) 26 (((4 * x1) + 3)))) (((((gI (σ13) (a0) 26 (((4 * x1) + 2))) + ((Int.tdiv ((gJ (σ13) (a0) 30 (((10001 * x1) + x3)))) (100000)) + (Int.tdiv ((gJ (σ13) (a0) 31 (((13 * x1) + x4)))) (100000)))) + ((gI (σ13) (a0) 26 ((4 * x1))) * (Int.tdiv ((x5 - 1)) (7)))) + ((gI (σ13) (a0) 26 (((4 * x1) + 1))) * (Int.tmod ((x5 - 1)) (7))))) (a0) (σ13) h)
theorem hy_X6_round : yX6_round.cls ≠ "java/lang/invoke/MethodHandle" ∧ yX6_round.cls ≠ "java/lang/invoke/VarHandle" ∧ (parseMethodDescriptor yX6_round.desc).map (fun d => d.parameters.length) = some 1 := by decide +kernel
set_option maxHeartbeats 4000000 in
theorem w_X6_round (l : Launch) (D : DD) (sz : Nat) {σ : St} {x0 : Int} {w : Int} (h : f_X6_round σ x0 = some w) : Mt l yX6_round cX6_round 2 (some FieldType.int) ({ frames := 0, cells := 0, slots := 0, locals := 0 } : Room) D sz σ [iv (x0)] (.returned (some (iv w))) (σ) 0 0 := by
  refine Mt.of (by decide +kernel) (Nat.le_of_ble_eq_true rfl) ?_
  intro Γ X hr hnl hini hnoh
  have X : Cx Γ cX6_round "DayBoyModel" _ := X
  have hL : ∀ i, i < 2 → i < nLc Γ := fun i q => by rw [hnl]; exact q
  show V Γ σ 0 0 0 [(0, iv (x0))] []
  unfold f_X6_round at h
  refine r_iload_n X 0 dX6_round_0 rfl rfl ?_
  refine r_bipush X dX6_round_1 (by decide) ?_
  obtain ⟨c1, h⟩ := ck_some h
  refine r_irem X dX6_round_3 c1 (by decide) (by decide) ?_
  refine r_bipush X dX6_round_4 (by decide) ?_
  refine r_iadd X dX6_round_6 ?_
  refine r_bipush X dX6_round_7 (by decide) ?_
  obtain ⟨c2, h⟩ := ck_some h
  refine r_irem X dX6_round_9 c2 (by decide) (by decide) ?_
  refine r_istore_n X dX6_round_10 rfl (hL 1 (by decide)) (lv' := [(1, iv ((Int.tmod (((Int.tmod (x0) (7)) + 7)) (7)))), (0, iv (x0))]) rfl ?_
  refine r_iload_n X 0 dX6_round_11 rfl rfl ?_
  refine r_iconst X dX6_round_12 ?_
  refine r_icmp_le (tgt := 23) X dX6_round_13 (by decide) h (fun c3 h => ?_) (fun c3 h => ?_)
  · refine r_iload_n X 0 dX6_round_16 rfl rfl ?_
    refine r_bipush X dX6_round_17 (by decide) ?_
    refine r_isub X dX6_round_19 ?_
    refine r_goto (tgt := 24) X dX6_round_20 (by decide) ?_
    cases h
    exact r_iret X hr dX6_round_24
  · refine r_iload_n X 0 dX6_round_23 rfl rfl ?_
    cases h
    exact r_iret X hr dX6_round_24
theorem hy_X6_falseStep : yX6_falseStep.cls ≠ "java/lang/invoke/MethodHandle" ∧ yX6_falseStep.cls ≠ "java/lang/invoke/VarHandle" ∧ (parseMethodDescriptor yX6_falseStep.desc).map (fun d => d.parameters.length) = some 1 := by decide +kernel
set_option maxHeartbeats 4000000 in
theorem w_X6_falseStep (l : Launch) (D : DD) (sz : Nat) {σ : St} {a0 : Nat} {x1 : Int} {w : Int} (h : f_X6_falseStep σ a0 x1 = some w) : Mt l yX6_falseStep cX6_falseStep 5 (some FieldType.int) ({ frames := 5, cells := 0, slots := 0, locals := 85 } : Room) D sz σ [.ref a0, iv (x1)] (.returned (some (iv w))) (σ) 0 0 := by
  refine Mt.of (by decide +kernel) (Nat.le_of_ble_eq_true rfl) ?_
  intro Γ X hr hnl hini hnoh
  have X : Cx Γ cX6_falseStep "DayBoyModel" _ := X
  have hL : ∀ i, i < 5 → i < nLc Γ := fun i q => by rw [hnl]; exact q
  show V Γ σ 0 0 0 [(0, .ref (a0)), (1, iv (x1))] []
  unfold f_X6_falseStep at h
  obtain ⟨ho0, h⟩ := cO_some h
  refine r_iconst X dX6_falseStep_0 ?_
  refine r_istore_n X dX6_falseStep_1 rfl (hL 2 (by decide)) (lv' := [(2, iv (1)), (0, .ref (a0)), (1, iv (x1))]) rfl ?_
  have L2 : ∀ s : Int, lp (fun s => f_X6_falseStep_b2 (σ) (a0) (x1) s) s = some w → V Γ (σ) 0 0 2 [(0, .ref (a0)), (1, iv (x1)), (2, iv (s))] [] := by
    refine lp_rule (P := fun s : Int => V Γ (σ) 0 0 2 [(0, .ref (a0)), (1, iv (x1)), (2, iv (s))] []) ?_
    intro s z1 h ihb1 ihe1
    obtain ⟨v2_1, es⟩ : ∃ q, q = s := ⟨s, rfl⟩
    subst es
    have h : f_X6_falseStep_b2 (σ) (a0) (x1) v2_1 = some z1 := h
    unfold f_X6_falseStep_b2 at h
    show V Γ σ 0 0 2 [(0, .ref (a0)), (1, iv (x1)), (2, iv (v2_1))] []
    refine r_iload_n X 2 dX6_falseStep_2 rfl rfl ?_
    refine r_aload_n X 0 dX6_falseStep_3 rfl rfl ?_
    refine r_getI (kf := 38) X ho0.1 rfl (by decide) rfl (Or.inl q1279) dX6_falseStep_4 ?_
    refine r_icmp_ge (tgt := 54) X dX6_falseStep_7 (by decide) h (fun c1 h => ?_) (fun c1 h => ?_)
    · refine r_aload_n X 0 dX6_falseStep_10 rfl rfl ?_
      refine r_iload_n X 1 dX6_falseStep_11 rfl rfl ?_
      refine r_aload_n X 0 dX6_falseStep_12 rfl rfl ?_
      refine r_getA (kf := 36) X ho0.1 rfl (by decide) (by decide) (Or.inl q1277) dX6_falseStep_13 ?_
      refine r_iload_n X 2 dX6_falseStep_16 rfl rfl ?_
      refine r_iconst X dX6_falseStep_17 ?_
      refine r_isub X dX6_falseStep_18 ?_
      refine r_iald X ho0.1 (ho0.2 36 (by decide)) rfl rfl rfl (by decide) dX6_falseStep_19 h (fun h => ?_)
      obtain ⟨r3, h2, h⟩ := bd_some h
      refine r_cV (Wd := 0) X (fun l D sz => w_X6_kindOf l D sz h2) ho0.1 rfl q1654 qs78 q1652 q109 q1655 hy_X6_kindOf rfl dX6_falseStep_20 rfl rfl (Nat.le_of_ble_eq_true rfl) ⟨Nat.le_of_ble_eq_true rfl, Nat.le_of_ble_eq_true rfl⟩ ⟨Nat.le_of_ble_eq_true rfl, Nat.le_of_ble_eq_true rfl⟩ ?_
      refine r_istore_n X dX6_falseStep_23 rfl (hL 3 (by decide)) (lv' := [(3, iv (r3)), (0, .ref (a0)), (1, iv (x1)), (2, iv (v2_1))]) rfl ?_
      refine r_iload_n X 0 dX6_falseStep_24 rfl rfl ?_
      refine r_iconst X dX6_falseStep_25 ?_
      refine r_icmp_eq (tgt := 44) X dX6_falseStep_26 (by decide) h (fun c4 h => ?_) (fun c4 h => ?_)
      · have h := ex_some h ihe1
        refine r_iload_n X 3 dX6_falseStep_44 rfl rfl ?_
        refine r_iconst X dX6_falseStep_45 ?_
        refine r_isub X dX6_falseStep_46 ?_
        cases h
        exact r_iret X hr dX6_falseStep_47
      · refine r_iload_n X 0 dX6_falseStep_29 rfl rfl ?_
        refine r_aload_n X 1 dX6_falseStep_30 rfl rfl ?_
        refine r_iload_n X 2 dX6_falseStep_31 rfl rfl ?_
        refine r_aload_n X 1 dX6_falseStep_32 rfl rfl ?_
        refine r_getA (kf := 36) X ho0.1 rfl (by decide) (by decide) (Or.inl q1277) dX6_falseStep_33 ?_
        refine r_iload_n X 3 dX6_falseStep_36 rfl rfl ?_
        refine r_iald X ho0.1 (ho0.2 36 (by decide)) rfl rfl rfl (by decide) dX6_falseStep_37 h (fun h => ?_)
        obtain ⟨r6, h5, h⟩ := bd_some h
        refine r_cV (Wd := 1) X (fun l D sz => w_X6_kindOf l D sz h5) ho0.1 rfl q1654 qs78 q1652 q109 q1655 hy_X6_kindOf rfl dX6_falseStep_38 rfl rfl (Nat.le_of_ble_eq_true rfl) ⟨Nat.le_of_ble_eq_true rfl, Nat.le_of_ble_eq_true rfl⟩ ⟨Nat.le_of_ble_eq_true rfl, Nat.le_of_ble_eq_true rfl⟩ ?_
        refine r_icmp_eq (tgt := 48) X dX6_falseStep_41 (by decide) h (fun c7 h => ?_) (fun c7 h => ?_)
        · refine r_iinc X 3 dX6_falseStep_48 rfl (hL 2 (by decide)) (lv' := [(2, iv ((v2_1 + 1))), (3, iv (r3)), (0, .ref (a0)), (1, iv (x1))]) rfl ?_
          refine r_goto (tgt := 2) X dX6_falseStep_51 (by decide) ?_
          exact V.sub [2, 3, 0] rfl (ihb1 _ (Option.some.inj h).symm)
        · have h := ex_some h ihe1
          refine r_iload_n X 3 dX6_falseStep_44 rfl rfl ?_
          refine r_iconst X dX6_falseStep_45 ?_
          refine r_isub X dX6_falseStep_46 ?_
          cases h
          exact r_iret X hr dX6_falseStep_47
    · have h := ex_some h ihe1
      refine r_aload_n X 0 dX6_falseStep_54 rfl rfl ?_
      refine r_getA (kf := 36) X ho0.1 rfl (by decide) (by decide) (Or.inl q1277) dX6_falseStep_55 ?_
      refine r_aload_n X 0 dX6_falseStep_58 rfl rfl ?_
      refine r_getI (kf := 38) X ho0.1 rfl (by decide) rfl (Or.inl q1279) dX6_falseStep_59 ?_
      refine r_iconst X dX6_falseStep_62 ?_
      refine r_isub X dX6_falseStep_63 ?_
      refine r_iald X ho0.1 (ho0.2 36 (by decide)) rfl rfl rfl (by decide) dX6_falseStep_64 h (fun h => ?_)
      refine r_istore_n X dX6_falseStep_65 rfl (hL 2 (by decide)) (lv' := [(2, iv ((gI (σ) (a0) 36 (((gI (σ) (a0) 38 0) - 1))))), (0, .ref (a0)), (1, iv (x1))]) rfl ?_
      refine r_iconst X dX6_falseStep_66 ?_
      refine r_istore_n X dX6_falseStep_67 rfl (hL 3 (by decide)) (lv' := [(3, iv (1)), (2, iv ((gI (σ) (a0) 36 (((gI (σ) (a0) 38 0) - 1))))), (0, .ref (a0)), (1, iv (x1))]) rfl ?_
      have L68 : ∀ s : Int, lp (fun s => f_X6_falseStep_b68 (σ) (a0) (x1) ((gI (σ) (a0) 36 (((gI (σ) (a0) 38 0) - 1)))) s) s = some w → V Γ (σ) 0 0 68 [(0, .ref (a0)), (1, iv (x1)), (2, iv ((gI (σ) (a0) 36 (((gI (σ) (a0) 38 0) - 1))))), (3, iv (s))] [] := by
        refine lp_rule (P := fun s : Int => V Γ (σ) 0 0 68 [(0, .ref (a0)), (1, iv (x1)), (2, iv ((gI (σ) (a0) 36 (((gI (σ) (a0) 38 0) - 1))))), (3, iv (s))] []) ?_
        intro s z1 h ihb1 ihe1
        obtain ⟨v3_1, es⟩ : ∃ q, q = s := ⟨s, rfl⟩
        subst es
        have h : f_X6_falseStep_b68 (σ) (a0) (x1) ((gI (σ) (a0) 36 (((gI (σ) (a0) 38 0) - 1)))) v3_1 = some z1 := h
        unfold f_X6_falseStep_b68 at h
        show V Γ σ 0 0 68 [(0, .ref (a0)), (1, iv (x1)), (2, iv ((gI (σ) (a0) 36 (((gI (σ) (a0) 38 0) - 1))))), (3, iv (v3_1))] []
        have J115 : ∀ (v3_j115 : Int) (t0_j115 : Int), f_X6_falseStep_j115 (σ) (a0) (x1) ((gI (σ) (a0) 36 (((gI (σ) (a0) 38 0) - 1)))) v3_j115 t0_j115 = some z1 → V Γ σ 0 0 115 [(0, .ref (a0)), (1, iv (x1)), (2, iv ((gI (σ) (a0) 36 (((gI (σ) (a0) 38 0) - 1))))), (3, iv (v3_j115))] [iv (t0_j115)] := by
          intro v3_j115 t0_j115 h
          unfold f_X6_falseStep_j115 at h
          refine r_istore X dX6_falseStep_115 (hL 4 (by decide)) (lv' := [(4, iv (t0_j115)), (0, .ref (a0)), (1, iv (x1)), (2, iv ((gI (σ) (a0) 36 (((gI (σ) (a0) 38 0) - 1))))), (3, iv (v3_j115))]) rfl ?_
          refine r_iload X 0 dX6_falseStep_117 rfl ?_
          refine r_if_eq (tgt := 159) X dX6_falseStep_119 (by decide) h (fun c8 h => ?_) (fun c8 h => ?_)
          · have h := ex_some h ihe1
            refine r_aload_n X 1 dX6_falseStep_159 rfl rfl ?_
            refine r_getI (kf := 38) X ho0.1 rfl (by decide) rfl (Or.inl q1279) dX6_falseStep_160 ?_
            refine r_iload_n X 4 dX6_falseStep_163 rfl rfl ?_
            refine r_iadd X dX6_falseStep_164 ?_
            refine r_iconst X dX6_falseStep_165 ?_
            refine r_isub X dX6_falseStep_166 ?_
            cases h
            exact r_iret X hr dX6_falseStep_167
          · refine r_aload_n X 1 dX6_falseStep_122 rfl rfl ?_
            refine r_iload_n X 2 dX6_falseStep_123 rfl rfl ?_
            refine r_iload_n X 3 dX6_falseStep_124 rfl rfl ?_
            refine r_aload_n X 1 dX6_falseStep_125 rfl rfl ?_
            refine r_getA (kf := 37) X ho0.1 rfl (by decide) (by decide) (Or.inl q1278) dX6_falseStep_126 ?_
            refine r_iload_n X 4 dX6_falseStep_129 rfl rfl ?_
            refine r_iconst X dX6_falseStep_130 ?_
            refine r_isub X dX6_falseStep_131 ?_
            refine r_iald X ho0.1 (ho0.2 37 (by decide)) rfl rfl rfl (by decide) dX6_falseStep_132 h (fun h => ?_)
            refine r_iconst X dX6_falseStep_133 ?_
            obtain ⟨r10, h9, h⟩ := bd_some h
            refine r_cV (Wd := 0) X (fun l D sz => w_X6_dayOf l D sz h9) ho0.1 rfl q1626 qs76 q1624 q109 q1627 hy_X6_dayOf rfl dX6_falseStep_134 rfl rfl (Nat.le_of_ble_eq_true rfl) ⟨Nat.le_of_ble_eq_true rfl, Nat.le_of_ble_eq_true rfl⟩ ⟨Nat.le_of_ble_eq_true rfl, Nat.le_of_ble_eq_true rfl⟩ ?_
            refine r_bipush X dX6_falseStep_137 (by decide) ?_
            obtain ⟨c11, h⟩ := ck_some h
            refine r_irem X dX6_falseStep_139 c11 (by decide) (by decide) ?_
            refine r_aload_n X 1 dX6_falseStep_140 rfl rfl ?_
            refine r_iload_n X 2 dX6_falseStep_141 rfl rfl ?_
            refine r_iload_n X 3 dX6_falseStep_142 rfl rfl ?_
            refine r_aload_n X 1 dX6_falseStep_143 rfl rfl ?_
            refine r_getA (kf := 37) X ho0.1 rfl (by decide) (by decide) (Or.inl q1278) dX6_falseStep_144 ?_
            refine r_iload_n X 4 dX6_falseStep_147 rfl rfl ?_
            refine r_iald X ho0.1 (ho0.2 37 (by decide)) rfl rfl rfl (by decide) dX6_falseStep_148 h (fun h => ?_)
            refine r_iconst X dX6_falseStep_149 ?_
            obtain ⟨r13, h12, h⟩ := bd_some h
            refine r_cV (Wd := 1) X (fun l D sz => w_X6_dayOf l D sz h12) ho0.1 rfl q1626 qs76 q1624 q109 q1627 hy_X6_dayOf rfl dX6_falseStep_150 rfl rfl (Nat.le_of_ble_eq_true rfl) ⟨Nat.le_of_ble_eq_true rfl, Nat.le_of_ble_eq_true rfl⟩ ⟨Nat.le_of_ble_eq_true rfl, Nat.le_of_ble_eq_true rfl⟩ ?_
            refine r_bipush X dX6_falseStep_153 (by decide) ?_
            obtain ⟨c14, h⟩ := ck_some h
            refine r_irem X dX6_falseStep_155 c14 (by decide) (by decide) ?_
            refine r_icmp_eq (tgt := 168) X dX6_falseStep_156 (by decide) h (fun c15 h => ?_) (fun c15 h => ?_)
            · refine r_iinc X 4 dX6_falseStep_168 rfl (hL 3 (by decide)) (lv' := [(3, iv ((v3_j115 + 1))), (4, iv (t0_j115)), (0, .ref (a0)), (1, iv (x1)), (2, iv ((gI (σ) (a0) 36 (((gI (σ) (a0) 38 0) - 1)))))]) rfl ?_
              refine r_goto (tgt := 68) X dX6_falseStep_171 (by decide) ?_
              exact V.sub [2, 3, 4, 0] rfl (ihb1 _ (Option.some.inj h).symm)
            · have h := ex_some h ihe1
              refine r_aload_n X 1 dX6_falseStep_159 rfl rfl ?_
              refine r_getI (kf := 38) X ho0.1 rfl (by decide) rfl (Or.inl q1279) dX6_falseStep_160 ?_
              refine r_iload_n X 4 dX6_falseStep_163 rfl rfl ?_
              refine r_iadd X dX6_falseStep_164 ?_
              refine r_iconst X dX6_falseStep_165 ?_
              refine r_isub X dX6_falseStep_166 ?_
              cases h
              exact r_iret X hr dX6_falseStep_167
        have J114 : ∀ (v3_j114 : Int), f_X6_falseStep_j114 (σ) (a0) (x1) ((gI (σ) (a0) 36 (((gI (σ) (a0) 38 0) - 1)))) v3_j114 = some z1 → V Γ σ 0 0 114 [(0, .ref (a0)), (1, iv (x1)), (2, iv ((gI (σ) (a0) 36 (((gI (σ) (a0) 38 0) - 1))))), (3, iv (v3_j114))] [] := by
          intro v3_j114 h
          unfold f_X6_falseStep_j114 at h
          refine r_iconst X dX6_falseStep_114 ?_
          exact V.sub [0, 1, 2, 3] rfl (J115 (v3_j114) (0) h)
        refine r_iload_n X 3 dX6_falseStep_68 rfl rfl ?_
        refine r_aload_n X 0 dX6_falseStep_69 rfl rfl ?_
        refine r_getI (kf := 39) X ho0.1 rfl (by decide) rfl (Or.inl q1280) dX6_falseStep_70 ?_
        refine r_icmp_ge (tgt := 174) X dX6_falseStep_73 (by decide) h (fun c16 h => ?_) (fun c16 h => ?_)
        · refine r_aload_n X 0 dX6_falseStep_76 rfl rfl ?_
          refine r_iload_n X 1 dX6_falseStep_77 rfl rfl ?_
          refine r_iload_n X 2 dX6_falseStep_78 rfl rfl ?_
          refine r_aload_n X 0 dX6_falseStep_79 rfl rfl ?_
          refine r_getA (kf := 37) X ho0.1 rfl (by decide) (by decide) (Or.inl q1278) dX6_falseStep_80 ?_
          refine r_iload_n X 3 dX6_falseStep_83 rfl rfl ?_
          refine r_iconst X dX6_falseStep_84 ?_
          refine r_isub X dX6_falseStep_85 ?_
          refine r_iald X ho0.1 (ho0.2 37 (by decide)) rfl rfl rfl (by decide) dX6_falseStep_86 h (fun h => ?_)
          refine r_iconst X dX6_falseStep_87 ?_
          obtain ⟨r18, h17, h⟩ := bd_some h
          refine r_cV (Wd := 0) X (fun l D sz => w_X6_isDate l D sz h17) ho0.1 rfl q1614 qs73 q1612 q109 q1615 hy_X6_isDate rfl dX6_falseStep_88 rfl rfl (Nat.le_of_ble_eq_true rfl) ⟨Nat.le_of_ble_eq_true rfl, Nat.le_of_ble_eq_true rfl⟩ ⟨Nat.le_of_ble_eq_true rfl, Nat.le_of_ble_eq_true rfl⟩ ?_
          refine r_if_eq (tgt := 114) X dX6_falseStep_91 (by decide) h (fun c19 h => ?_) (fun c19 h => ?_)
          · exact V.sub [0, 1, 2, 3] rfl (J114 (v3_1) h)
          · refine r_aload_n X 0 dX6_falseStep_94 rfl rfl ?_
            refine r_iload_n X 1 dX6_falseStep_95 rfl rfl ?_
            refine r_iload_n X 2 dX6_falseStep_96 rfl rfl ?_
            refine r_aload_n X 0 dX6_falseStep_97 rfl rfl ?_
            refine r_getA (kf := 37) X ho0.1 rfl (by decide) (by decide) (Or.inl q1278) dX6_falseStep_98 ?_
            refine r_iload_n X 3 dX6_falseStep_101 rfl rfl ?_
            refine r_iald X ho0.1 (ho0.2 37 (by decide)) rfl rfl rfl (by decide) dX6_falseStep_102 h (fun h => ?_)
            refine r_iconst X dX6_falseStep_103 ?_
            obtain ⟨r21, h20, h⟩ := bd_some h
            refine r_cV (Wd := 0) X (fun l D sz => w_X6_isDate l D sz h20) ho0.1 rfl q1614 qs73 q1612 q109 q1615 hy_X6_isDate rfl dX6_falseStep_104 rfl rfl (Nat.le_of_ble_eq_true rfl) ⟨Nat.le_of_ble_eq_true rfl, Nat.le_of_ble_eq_true rfl⟩ ⟨Nat.le_of_ble_eq_true rfl, Nat.le_of_ble_eq_true rfl⟩ ?_
            refine r_if_eq (tgt := 114) X dX6_falseStep_107 (by decide) h (fun c22 h => ?_) (fun c22 h => ?_)
            · exact V.sub [0, 1, 2, 3] rfl (J114 (v3_1) h)
            · refine r_iconst X dX6_falseStep_110 ?_
              refine r_goto (tgt := 115) X dX6_falseStep_111 (by decide) ?_
              exact V.sub [0, 1, 2, 3] rfl (J115 (v3_1) (1) h)
        · have h := ex_some h ihe1
          refine r_iconst X dX6_falseStep_174 ?_
          cases h
          exact r_iret X hr dX6_falseStep_175
      exact V.sub [2, 3, 1, 0] rfl (L68 (1) h)
  exact V.sub [1, 2, 0] rfl (L2 (1) h)
theorem hy_X6_answers : yX6_answers.cls ≠ "java/lang/invoke/MethodHandle" ∧ yX6_answers.cls ≠ "java/lang/invoke/VarHandle" ∧ (parseMethodDescriptor yX6_answers.desc).map (fun d => d.parameters.length) = some 6 := by decide +kernel
set_option maxHeartbeats 4000000 in
theorem w_X6_answers (l : Launch) (D : DD) (sz : Nat) {σ : St} {a0 : Nat} {x1 : Int} {x2 : Int} {x3 : Int} {x4 : Int} {x5 : Int} {x6 : Int} {w : Int × St} (h : f_X6_answers σ a0 x1 x2 x3 x4 x5 x6 = some w) : Mt l yX6_answers cX6_answers 7 (some FieldType.int) ({ frames := 6, cells := 0, slots := 0, locals := 101 } : Room) D sz σ [.ref a0, iv (x1), iv (x2), iv (x3), iv (x4), iv (x5), iv (x6)] (.returned (some (iv w.1))) (w.2) 0 0 := by
  refine Mt.of (by decide +kernel) (Nat.le_of_ble_eq_true rfl) ?_
  intro Γ X hr hnl hini hnoh
  have X : Cx Γ cX6_answers "DayBoyModel" _ := X
  have hL : ∀ i, i < 7 → i < nLc Γ := fun i q => by rw [hnl]; exact q
  show V Γ σ 0 0 0 [(0, .ref (a0)), (1, iv (x1)), (2, iv (x2)), (3, iv (x3)), (4, iv (x4)), (5, iv (x5)), (6, iv (x6))] []
  unfold f_X6_answers at h
  obtain ⟨ho0, h⟩ := cO_some h
  refine r_aload_n X 0 dX6_answers_0 rfl rfl ?_
  refine r_iload_n X 1 dX6_answers_1 rfl rfl ?_
  obtain ⟨r2, h1, h⟩ := bd_some h
  refine r_cV (Wd := 0) X (fun l D sz => w_X6_isHead l D sz h1) ho0.1 rfl q1662 qs79 q1660 q109 q1663 hy_X6_isHead rfl dX6_answers_2 rfl rfl (Nat.le_of_ble_eq_true rfl) ⟨Nat.le_of_ble_eq_true rfl, Nat.le_of_ble_eq_true rfl⟩ ⟨Nat.le_of_ble_eq_true rfl, Nat.le_of_ble_eq_true rfl⟩ ?_
  refine r_if_eq (tgt := 45) X dX6_answers_5 (by decide) h (fun c3 h => ?_) (fun c3 h => ?_)
  · refine r_sipush X dX6_answers_45 (by decide) ?_
    cases h
    exact r_iret X hr dX6_answers_48
  · refine r_aload_n X 0 dX6_answers_8 rfl rfl ?_
    refine r_iload_n X 2 dX6_answers_9 rfl rfl ?_
    refine r_iload_n X 3 dX6_answers_10 rfl rfl ?_
    refine r_iload X 4 dX6_answers_11 rfl ?_
    refine r_iload X 5 dX6_answers_13 rfl ?_
    obtain ⟨r5, h4, h⟩ := bd_some h
    refine r_cV (Wd := 0) X (fun l D sz => w_X6_isDate l D sz h4) ho0.1 rfl q1614 qs73 q1612 q109 q1615 hy_X6_isDate rfl dX6_answers_15 rfl rfl (Nat.le_of_ble_eq_true rfl) ⟨Nat.le_of_ble_eq_true rfl, Nat.le_of_ble_eq_true rfl⟩ ⟨Nat.le_of_ble_eq_true rfl, Nat.le_of_ble_eq_true rfl⟩ ?_
    refine r_if_eq (tgt := 45) X dX6_answers_18 (by decide) h (fun c6 h => ?_) (fun c6 h => ?_)
    · refine r_sipush X dX6_answers_45 (by decide) ?_
      cases h
      exact r_iret X hr dX6_answers_48
    · refine r_iload X 6 dX6_answers_21 rfl ?_
      refine r_iconst X dX6_answers_23 ?_
      refine r_iconst X dX6_answers_24 ?_
      obtain ⟨r8, h7, h⟩ := bd_some h
      refine r_cS (Wd := 0) X (fun l D sz => w_X6_in l D sz h7) q1502 q1501 q109 q1503 hy_X6_in rfl dX6_answers_25 rfl rfl (Nat.le_of_ble_eq_true rfl) ⟨Nat.le_of_ble_eq_true rfl, Nat.le_of_ble_eq_true rfl⟩ ⟨Nat.le_of_ble_eq_true rfl, Nat.le_of_ble_eq_true rfl⟩ ?_
      refine r_if_eq (tgt := 45) X dX6_answers_28 (by decide) h (fun c9 h => ?_) (fun c9 h => ?_)
      · refine r_sipush X dX6_answers_45 (by decide) ?_
        cases h
        exact r_iret X hr dX6_answers_48
      · refine r_aload_n X 0 dX6_answers_31 rfl rfl ?_
        refine r_iload_n X 1 dX6_answers_32 rfl rfl ?_
        refine r_iload_n X 2 dX6_answers_33 rfl rfl ?_
        refine r_iload_n X 3 dX6_answers_34 rfl rfl ?_
        refine r_iload X 4 dX6_answers_35 rfl ?_
        refine r_iload X 5 dX6_answers_37 rfl ?_
        obtain ⟨r11, σ12, h10, h⟩ := bd2_some h
        refine r_cV (Wd := 0) X (fun l D sz => w_X6_answer l D sz h10) ho0.1 rfl q1682 qs83 q1680 q109 q1683 hy_X6_answer rfl dX6_answers_39 rfl rfl (Nat.le_of_ble_eq_true rfl) ⟨Nat.le_of_ble_eq_true rfl, Nat.le_of_ble_eq_true rfl⟩ ⟨Nat.le_of_ble_eq_true rfl, Nat.le_of_ble_eq_true rfl⟩ ?_
        refine r_if_ne (tgt := 49) X dX6_answers_42 (by decide) h (fun c13 h => ?_) (fun c13 h => ?_)
        · refine r_sipush X dX6_answers_45 (by decide) ?_
          cases h
          exact r_iret X hr dX6_answers_48
        · refine r_iload X 6 dX6_answers_49 rfl ?_
          refine r_if_ne (tgt := 61) X dX6_answers_51 (by decide) h (fun c14 h => ?_) (fun c14 h => ?_)
          · refine r_aload_n X 0 dX6_answers_54 rfl rfl ?_
            obtain ⟨ho15, h⟩ := cO_some h
            refine r_getI (kf := 40) X ho15.1 rfl (by decide) rfl (Or.inl q1281) dX6_answers_55 ?_
            refine r_goto (tgt := 106) X dX6_answers_58 (by decide) ?_
            cases h
            exact r_iret X hr dX6_answers_106
          · refine r_iload X 6 dX6_answers_61 rfl ?_
            refine r_iconst X dX6_answers_63 ?_
            refine r_icmp_ne (tgt := 74) X dX6_answers_64 (by decide) h (fun c16 h => ?_) (fun c16 h => ?_)
            · refine r_aload_n X 0 dX6_answers_67 rfl rfl ?_
              obtain ⟨ho17, h⟩ := cO_some h
              refine r_getI (kf := 41) X ho17.1 rfl (by decide) rfl (Or.inl q1282) dX6_answers_68 ?_
              refine r_goto (tgt := 106) X dX6_answers_71 (by decide) ?_
              cases h
              exact r_iret X hr dX6_answers_106
            · refine r_iload X 6 dX6_answers_74 rfl ?_
              refine r_iconst X dX6_answers_76 ?_
              refine r_icmp_ne (tgt := 101) X dX6_answers_77 (by decide) h (fun c18 h => ?_) (fun c18 h => ?_)
              · refine r_aload_n X 0 dX6_answers_80 rfl rfl ?_
                obtain ⟨ho19, h⟩ := cO_some h
                refine r_getI (kf := 40) X ho19.1 rfl (by decide) rfl (Or.inl q1281) dX6_answers_81 ?_
                refine r_aload_n X 0 dX6_answers_84 rfl rfl ?_
                refine r_iload_n X 2 dX6_answers_85 rfl rfl ?_
                refine r_iload_n X 3 dX6_answers_86 rfl rfl ?_
                refine r_iload X 4 dX6_answers_87 rfl ?_
                refine r_iload X 5 dX6_answers_89 rfl ?_
                obtain ⟨r21, h20, h⟩ := bd_some h
                refine r_cV (Wd := 1) X (fun l D sz => w_X6_dayOf l D sz h20) ho19.1 rfl q1626 qs76 q1624 q109 q1627 hy_X6_dayOf rfl dX6_answers_91 rfl rfl (Nat.le_of_ble_eq_true rfl) ⟨Nat.le_of_ble_eq_true rfl, Nat.le_of_ble_eq_true rfl⟩ ⟨Nat.le_of_ble_eq_true rfl, Nat.le_of_ble_eq_true rfl⟩ ?_
                refine r_isub X dX6_answers_94 ?_
                obtain ⟨r23, h22, h⟩ := bd_some h
                refine r_cS (Wd := 0) X (fun l D sz => w_X6_round l D sz h22) q1685 q1684 q109 q1686 hy_X6_round rfl dX6_answers_95 rfl rfl (Nat.le_of_ble_eq_true rfl) ⟨Nat.le_of_ble_eq_true rfl, Nat.le_of_ble_eq_true rfl⟩ ⟨Nat.le_of_ble_eq_true rfl, Nat.le_of_ble_eq_true rfl⟩ ?_
                refine r_goto (tgt := 106) X dX6_answers_98 (by decide) ?_
                cases h
                exact r_iret X hr dX6_answers_106
              · refine r_aload_n X 0 dX6_answers_101 rfl rfl ?_
                refine r_iload_n X 2 dX6_answers_102 rfl rfl ?_
                obtain ⟨ho25, h⟩ := cO_some h
                obtain ⟨r26, h24, h⟩ := bd_some h
                refine r_cV (Wd := 0) X (fun l D sz => w_X6_falseStep l D sz h24) ho25.1 rfl q1689 qs84 q1687 q109 q1690 hy_X6_falseStep rfl dX6_answers_103 rfl rfl (Nat.le_of_ble_eq_true rfl) ⟨Nat.le_of_ble_eq_true rfl, Nat.le_of_ble_eq_true rfl⟩ ⟨Nat.le_of_ble_eq_true rfl, Nat.le_of_ble_eq_true rfl⟩ ?_
                cases h
                exact r_iret X hr dX6_answers_106
theorem hy_X6_ask : yX6_ask.cls ≠ "java/lang/invoke/MethodHandle" ∧ yX6_ask.cls ≠ "java/lang/invoke/VarHandle" ∧ (parseMethodDescriptor yX6_ask.desc).map (fun d => d.parameters.length) = some 7 := by decide +kernel
set_option maxHeartbeats 4000000 in
theorem w_X6_ask (l : Launch) (D : DD) (sz : Nat) {σ : St} {a0 : Nat} {x1 : Int} {x2 : Int} {x3 : Int} {x4 : Int} {x5 : Int} {x6 : Int} {x7 : Int} {w : Int × St} (h : f_X6_ask σ a0 x1 x2 x3 x4 x5 x6 x7 = some w) : Mt l yX6_ask cX6_ask 8 (some FieldType.int) ({ frames := 4, cells := 0, slots := 0, locals := 65 } : Room) D sz σ [.ref a0, iv (x1), iv (x2), iv (x3), iv (x4), iv (x5), iv (x6), iv (x7)] (.returned (some (iv w.1))) (w.2) 0 0 := by
  refine Mt.of (by decide +kernel) (Nat.le_of_ble_eq_true rfl) ?_
  intro Γ X hr hnl hini hnoh
  have X : Cx Γ cX6_ask "DayBoyModel" _ := X
  have hL : ∀ i, i < 8 → i < nLc Γ := fun i q => by rw [hnl]; exact q
  show V Γ σ 0 0 0 [(0, .ref (a0)), (1, iv (x1)), (2, iv (x2)), (3, iv (x3)), (4, iv (x4)), (5, iv (x5)), (6, iv (x6)), (7, iv (x7))] []
  unfold f_X6_ask at h
  obtain ⟨ho0, h⟩ := cO_some h
  have J42 : ∀ (σ_j42 : St), f_X6_ask_j42 (a0) (x1) (x2) (x3) (x4) (x5) (x6) (x7) σ_j42 = some w → V Γ σ_j42 0 0 42 [(0, .ref (a0)), (1, iv (x1)), (2, iv (x2)), (3, iv (x3)), (4, iv (x4)), (5, iv (x5)), (6, iv (x6)), (7, iv (x7))] [] := by
    intro σ_j42 h
    unfold f_X6_ask_j42 at h
    refine r_aload_n X 0 dX6_ask_42 rfl rfl ?_
    refine r_iload_n X 2 dX6_ask_43 rfl rfl ?_
    refine r_iload_n X 3 dX6_ask_44 rfl rfl ?_
    refine r_iload X 4 dX6_ask_45 rfl ?_
    refine r_iload X 5 dX6_ask_47 rfl ?_
    obtain ⟨ho2, h⟩ := cO_some h
    obtain ⟨r3, h1, h⟩ := bd_some h
    refine r_cV (Wd := 0) X (fun l D sz => w_X6_isDate l D sz h1) ho2.1 rfl q1614 qs73 q1612 q109 q1615 hy_X6_isDate rfl dX6_ask_49 rfl rfl (Nat.le_of_ble_eq_true rfl) ⟨Nat.le_of_ble_eq_true rfl, Nat.le_of_ble_eq_true rfl⟩ ⟨Nat.le_of_ble_eq_true rfl, Nat.le_of_ble_eq_true rfl⟩ ?_
    refine r_if_eq (tgt := 87) X dX6_ask_52 (by decide) h (fun c4 h => ?_) (fun c4 h => ?_)
    · refine r_iconst X dX6_ask_87 ?_
      cases h
      exact r_iret X hr dX6_ask_88
    · refine r_iload X 6 dX6_ask_55 rfl ?_
      refine r_iconst X dX6_ask_57 ?_
      refine r_bipush X dX6_ask_58 (by decide) ?_
      obtain ⟨r6, h5, h⟩ := bd_some h
      refine r_cS (Wd := 0) X (fun l D sz => w_X6_in l D sz h5) q1502 q1501 q109 q1503 hy_X6_in rfl dX6_ask_60 rfl rfl (Nat.le_of_ble_eq_true rfl) ⟨Nat.le_of_ble_eq_true rfl, Nat.le_of_ble_eq_true rfl⟩ ⟨Nat.le_of_ble_eq_true rfl, Nat.le_of_ble_eq_true rfl⟩ ?_
      refine r_if_eq (tgt := 87) X dX6_ask_63 (by decide) h (fun c7 h => ?_) (fun c7 h => ?_)
      · refine r_iconst X dX6_ask_87 ?_
        cases h
        exact r_iret X hr dX6_ask_88
      · refine r_iload X 7 dX6_ask_66 rfl ?_
        refine r_iconst X dX6_ask_68 ?_
        refine r_sipush X dX6_ask_69 (by decide) ?_
        obtain ⟨r9, h8, h⟩ := bd_some h
        refine r_cS (Wd := 0) X (fun l D sz => w_X6_in l D sz h8) q1502 q1501 q109 q1503 hy_X6_in rfl dX6_ask_72 rfl rfl (Nat.le_of_ble_eq_true rfl) ⟨Nat.le_of_ble_eq_true rfl, Nat.le_of_ble_eq_true rfl⟩ ⟨Nat.le_of_ble_eq_true rfl, Nat.le_of_ble_eq_true rfl⟩ ?_
        refine r_if_eq (tgt := 87) X dX6_ask_75 (by decide) h (fun c10 h => ?_) (fun c10 h => ?_)
        · refine r_iconst X dX6_ask_87 ?_
          cases h
          exact r_iret X hr dX6_ask_88
        · refine r_aload_n X 0 dX6_ask_78 rfl rfl ?_
          refine r_getI (kf := 49) X ho2.1 rfl (by decide) rfl (Or.inl q1290) dX6_ask_79 ?_
          refine r_bipush X dX6_ask_82 (by decide) ?_
          refine r_icmp_ne (tgt := 89) X dX6_ask_84 (by decide) h (fun c11 h => ?_) (fun c11 h => ?_)
          · refine r_iconst X dX6_ask_87 ?_
            cases h
            exact r_iret X hr dX6_ask_88
          · refine r_aload_n X 0 dX6_ask_89 rfl rfl ?_
            refine r_getA (kf := 42) X ho2.1 rfl (by decide) (by decide) (Or.inl q1283) dX6_ask_90 ?_
            refine r_aload_n X 0 dX6_ask_93 rfl rfl ?_
            refine r_getI (kf := 49) X ho2.1 rfl (by decide) rfl (Or.inl q1290) dX6_ask_94 ?_
            refine r_iload_n X 1 dX6_ask_97 rfl rfl ?_
            refine r_iast X ho2.1 (ho2.2 42 (by decide)) rfl rfl rfl (by decide) dX6_ask_98 h (fun h => ?_)
            refine r_let h (fun σ12 eσ12 h => ?_)
            refine r_aload_n X 0 dX6_ask_99 rfl rfl ?_
            have hk13 : oc σ12 (a0) 5 := by rw [eσ12]; exact ho2
            refine r_getA (kf := 43) X hk13.1 rfl (by decide) (by decide) (Or.inl q1284) dX6_ask_100 ?_
            refine r_aload_n X 0 dX6_ask_103 rfl rfl ?_
            refine r_getI (kf := 49) X hk13.1 rfl (by decide) rfl (Or.inl q1290) dX6_ask_104 ?_
            refine r_iload_n X 2 dX6_ask_107 rfl rfl ?_
            refine r_iast X hk13.1 (hk13.2 43 (by decide)) rfl rfl rfl (by decide) dX6_ask_108 h (fun h => ?_)
            refine r_let h (fun σ14 eσ14 h => ?_)
            refine r_aload_n X 0 dX6_ask_109 rfl rfl ?_
            have hk15 : oc σ14 (a0) 5 := by rw [eσ14]; exact hk13
            refine r_getA (kf := 44) X hk15.1 rfl (by decide) (by decide) (Or.inl q1285) dX6_ask_110 ?_
            refine r_aload_n X 0 dX6_ask_113 rfl rfl ?_
            refine r_getI (kf := 49) X hk15.1 rfl (by decide) rfl (Or.inl q1290) dX6_ask_114 ?_
            refine r_iload_n X 3 dX6_ask_117 rfl rfl ?_
            refine r_iast X hk15.1 (hk15.2 44 (by decide)) rfl rfl rfl (by decide) dX6_ask_118 h (fun h => ?_)
            refine r_let h (fun σ16 eσ16 h => ?_)
            refine r_aload_n X 0 dX6_ask_119 rfl rfl ?_
            have hk17 : oc σ16 (a0) 5 := by rw [eσ16]; exact hk15
            refine r_getA (kf := 45) X hk17.1 rfl (by decide) (by decide) (Or.inl q1286) dX6_ask_120 ?_
            refine r_aload_n X 0 dX6_ask_123 rfl rfl ?_
            refine r_getI (kf := 49) X hk17.1 rfl (by decide) rfl (Or.inl q1290) dX6_ask_124 ?_
            refine r_iload X 4 dX6_ask_127 rfl ?_
            refine r_iast X hk17.1 (hk17.2 45 (by decide)) rfl rfl rfl (by decide) dX6_ask_129 h (fun h => ?_)
            refine r_let h (fun σ18 eσ18 h => ?_)
            refine r_aload_n X 0 dX6_ask_130 rfl rfl ?_
            have hk19 : oc σ18 (a0) 5 := by rw [eσ18]; exact hk17
            refine r_getA (kf := 46) X hk19.1 rfl (by decide) (by decide) (Or.inl q1287) dX6_ask_131 ?_
            refine r_aload_n X 0 dX6_ask_134 rfl rfl ?_
            refine r_getI (kf := 49) X hk19.1 rfl (by decide) rfl (Or.inl q1290) dX6_ask_135 ?_
            refine r_iload X 5 dX6_ask_138 rfl ?_
            refine r_iast X hk19.1 (hk19.2 46 (by decide)) rfl rfl rfl (by decide) dX6_ask_140 h (fun h => ?_)
            refine r_let h (fun σ20 eσ20 h => ?_)
            refine r_aload_n X 0 dX6_ask_141 rfl rfl ?_
            have hk21 : oc σ20 (a0) 5 := by rw [eσ20]; exact hk19
            refine r_getA (kf := 47) X hk21.1 rfl (by decide) (by decide) (Or.inl q1288) dX6_ask_142 ?_
            refine r_aload_n X 0 dX6_ask_145 rfl rfl ?_
            refine r_getI (kf := 49) X hk21.1 rfl (by decide) rfl (Or.inl q1290) dX6_ask_146 ?_
            refine r_iload X 6 dX6_ask_149 rfl ?_
            refine r_iast X hk21.1 (hk21.2 47 (by decide)) rfl rfl rfl (by decide) dX6_ask_151 h (fun h => ?_)
            refine r_let h (fun σ22 eσ22 h => ?_)
            refine r_aload_n X 0 dX6_ask_152 rfl rfl ?_
            have hk23 : oc σ22 (a0) 5 := by rw [eσ22]; exact hk21
            refine r_getA (kf := 48) X hk23.1 rfl (by decide) (by decide) (Or.inl q1289) dX6_ask_153 ?_
            refine r_aload_n X 0 dX6_ask_156 rfl rfl ?_
            refine r_getI (kf := 49) X hk23.1 rfl (by decide) rfl (Or.inl q1290) dX6_ask_157 ?_
            refine r_iload X 7 dX6_ask_160 rfl ?_
            refine r_iast X hk23.1 (hk23.2 48 (by decide)) rfl rfl rfl (by decide) dX6_ask_162 h (fun h => ?_)
            refine r_let h (fun σ24 eσ24 h => ?_)
            refine r_aload_n X 0 dX6_ask_163 rfl rfl ?_
            refine r_dup X dX6_ask_164 rfl ?_
            have hk25 : oc σ24 (a0) 5 := by rw [eσ24]; exact hk23
            refine r_getI (kf := 49) X hk25.1 rfl (by decide) rfl (Or.inl q1290) dX6_ask_165 ?_
            refine r_iconst X dX6_ask_168 ?_
            refine r_iadd X dX6_ask_169 ?_
            refine r_putI (kf := 49) X hk25.1 rfl (by decide) rfl rfl (Or.inl q1290) dX6_ask_170 rfl ?_
            refine r_let h (fun σ26 eσ26 h => ?_)
            refine r_aload_n X 0 dX6_ask_173 rfl rfl ?_
            have hk27 : oc σ26 (a0) 5 := by rw [eσ26]; exact hk25
            refine r_getI (kf := 49) X hk27.1 rfl (by decide) rfl (Or.inl q1290) dX6_ask_174 ?_
            refine r_iconst X dX6_ask_177 ?_
            refine r_isub X dX6_ask_178 ?_
            cases h
            exact r_iret X hr dX6_ask_179
  refine r_iload_n X 1 dX6_ask_0 rfl rfl ?_
  refine r_iconst X dX6_ask_1 ?_
  refine r_sipush X dX6_ask_2 (by decide) ?_
  obtain ⟨r29, h28, h⟩ := bd_some h
  refine r_cS (Wd := 0) X (fun l D sz => w_X6_in l D sz h28) q1502 q1501 q109 q1503 hy_X6_in rfl dX6_ask_5 rfl rfl (Nat.le_of_ble_eq_true rfl) ⟨Nat.le_of_ble_eq_true rfl, Nat.le_of_ble_eq_true rfl⟩ ⟨Nat.le_of_ble_eq_true rfl, Nat.le_of_ble_eq_true rfl⟩ ?_
  refine r_if_eq (tgt := 87) X dX6_ask_8 (by decide) h (fun c30 h => ?_) (fun c30 h => ?_)
  · refine r_iconst X dX6_ask_87 ?_
    cases h
    exact r_iret X hr dX6_ask_88
  · refine r_aload_n X 0 dX6_ask_11 rfl rfl ?_
    refine r_getI (kf := 49) X ho0.1 rfl (by decide) rfl (Or.inl q1290) dX6_ask_12 ?_
    refine r_if_le (tgt := 42) X dX6_ask_15 (by decide) h (fun c31 h => ?_) (fun c31 h => ?_)
    · refine r_aload_n X 0 dX6_ask_18 rfl rfl ?_
      refine r_getI (kf := 49) X ho0.1 rfl (by decide) rfl (Or.inl q1290) dX6_ask_19 ?_
      refine r_bipush X dX6_ask_22 (by decide) ?_
      refine r_icmp_gt (tgt := 42) X dX6_ask_24 (by decide) h (fun c32 h => ?_) (fun c32 h => ?_)
      · exact V.sub [0, 1, 2, 3, 4, 5, 6, 7] rfl (J42 (σ) h)
      · refine r_iload_n X 1 dX6_ask_27 rfl rfl ?_
        refine r_aload_n X 0 dX6_ask_28 rfl rfl ?_
        refine r_getA (kf := 42) X ho0.1 rfl (by decide) (by decide) (Or.inl q1283) dX6_ask_29 ?_
        refine r_aload_n X 0 dX6_ask_32 rfl rfl ?_
        refine r_getI (kf := 49) X ho0.1 rfl (by decide) rfl (Or.inl q1290) dX6_ask_33 ?_
        refine r_iconst X dX6_ask_36 ?_
        refine r_isub X dX6_ask_37 ?_
        refine r_iald X ho0.1 (ho0.2 42 (by decide)) rfl rfl rfl (by decide) dX6_ask_38 h (fun h => ?_)
        refine r_icmp_lt (tgt := 87) X dX6_ask_39 (by decide) h (fun c33 h => ?_) (fun c33 h => ?_)
        · refine r_iconst X dX6_ask_87 ?_
          cases h
          exact r_iret X hr dX6_ask_88
        · exact V.sub [0, 1, 2, 3, 4, 5, 6, 7] rfl (J42 (σ) h)
    · exact V.sub [0, 1, 2, 3, 4, 5, 6, 7] rfl (J42 (σ) h)
theorem hy_X6_askDay : yX6_askDay.cls ≠ "java/lang/invoke/MethodHandle" ∧ yX6_askDay.cls ≠ "java/lang/invoke/VarHandle" ∧ (parseMethodDescriptor yX6_askDay.desc).map (fun d => d.parameters.length) = some 1 := by decide +kernel
set_option maxHeartbeats 4000000 in
theorem w_X6_askDay (l : Launch) (D : DD) (sz : Nat) {σ : St} {a0 : Nat} {x1 : Int} {w : Int} (h : f_X6_askDay σ a0 x1 = some w) : Mt l yX6_askDay cX6_askDay 2 (some FieldType.int) ({ frames := 4, cells := 0, slots := 0, locals := 68 } : Room) D sz σ [.ref a0, iv (x1)] (.returned (some (iv w))) (σ) 0 0 := by
  refine Mt.of (by decide +kernel) (Nat.le_of_ble_eq_true rfl) ?_
  intro Γ X hr hnl hini hnoh
  have X : Cx Γ cX6_askDay "DayBoyModel" _ := X
  have hL : ∀ i, i < 2 → i < nLc Γ := fun i q => by rw [hnl]; exact q
  show V Γ σ 0 0 0 [(0, .ref (a0)), (1, iv (x1))] []
  unfold f_X6_askDay at h
  obtain ⟨ho0, h⟩ := cO_some h
  refine r_aload_n X 0 dX6_askDay_0 rfl rfl ?_
  refine r_aload_n X 0 dX6_askDay_1 rfl rfl ?_
  refine r_getA (kf := 43) X ho0.1 rfl (by decide) (by decide) (Or.inl q1284) dX6_askDay_2 ?_
  refine r_iload_n X 1 dX6_askDay_5 rfl rfl ?_
  refine r_iald X ho0.1 (ho0.2 43 (by decide)) rfl rfl rfl (by decide) dX6_askDay_6 h (fun h => ?_)
  refine r_aload_n X 0 dX6_askDay_7 rfl rfl ?_
  refine r_getA (kf := 44) X ho0.1 rfl (by decide) (by decide) (Or.inl q1285) dX6_askDay_8 ?_
  refine r_iload_n X 1 dX6_askDay_11 rfl rfl ?_
  refine r_iald X ho0.1 (ho0.2 44 (by decide)) rfl rfl rfl (by decide) dX6_askDay_12 h (fun h => ?_)
  refine r_aload_n X 0 dX6_askDay_13 rfl rfl ?_
  refine r_getA (kf := 45) X ho0.1 rfl (by decide) (by decide) (Or.inl q1286) dX6_askDay_14 ?_
  refine r_iload_n X 1 dX6_askDay_17 rfl rfl ?_
  refine r_iald X ho0.1 (ho0.2 45 (by decide)) rfl rfl rfl (by decide) dX6_askDay_18 h (fun h => ?_)
  refine r_aload_n X 0 dX6_askDay_19 rfl rfl ?_
  refine r_getA (kf := 46) X ho0.1 rfl (by decide) (by decide) (Or.inl q1287) dX6_askDay_20 ?_
  refine r_iload_n X 1 dX6_askDay_23 rfl rfl ?_
  refine r_iald X ho0.1 (ho0.2 46 (by decide)) rfl rfl rfl (by decide) dX6_askDay_24 h (fun h => ?_)
  obtain ⟨r2, h1, h⟩ := bd_some h
  refine r_cV (Wd := 0) X (fun l D sz => w_X6_dayOf l D sz h1) ho0.1 rfl q1626 qs76 q1624 q109 q1627 hy_X6_dayOf rfl dX6_askDay_25 rfl rfl (Nat.le_of_ble_eq_true rfl) ⟨Nat.le_of_ble_eq_true rfl, Nat.le_of_ble_eq_true rfl⟩ ⟨Nat.le_of_ble_eq_true rfl, Nat.le_of_ble_eq_true rfl⟩ ?_
  cases h
  exact r_iret X hr dX6_askDay_28
theorem hy_X6_asked : yX6_asked.cls ≠ "java/lang/invoke/MethodHandle" ∧ yX6_asked.cls ≠ "java/lang/invoke/VarHandle" ∧ (parseMethodDescriptor yX6_asked.desc).map (fun d => d.parameters.length) = some 2 := by decide +kernel
set_option maxHeartbeats 4000000 in
theorem w_X6_asked (l : Launch) (D : DD) (sz : Nat) {σ : St} {a0 : Nat} {x1 : Int} {x2 : Int} {w : Int} (h : f_X6_asked σ a0 x1 x2 = some w) : Mt l yX6_asked cX6_asked 3 (some FieldType.int) ({ frames := 5, cells := 0, slots := 0, locals := 82 } : Room) D sz σ [.ref a0, iv (x1), iv (x2)] (.returned (some (iv w))) (σ) 0 0 := by
  refine Mt.of (by decide +kernel) (Nat.le_of_ble_eq_true rfl) ?_
  intro Γ X hr hnl hini hnoh
  have X : Cx Γ cX6_asked "DayBoyModel" _ := X
  have hL : ∀ i, i < 3 → i < nLc Γ := fun i q => by rw [hnl]; exact q
  show V Γ σ 0 0 0 [(0, .ref (a0)), (1, iv (x1)), (2, iv (x2))] []
  unfold f_X6_asked at h
  obtain ⟨ho0, h⟩ := cO_some h
  refine r_iload_n X 1 dX6_asked_0 rfl rfl ?_
  refine r_iconst X dX6_asked_1 ?_
  refine r_aload_n X 0 dX6_asked_2 rfl rfl ?_
  refine r_getI (kf := 49) X ho0.1 rfl (by decide) rfl (Or.inl q1290) dX6_asked_3 ?_
  refine r_iconst X dX6_asked_6 ?_
  refine r_isub X dX6_asked_7 ?_
  obtain ⟨r2, h1, h⟩ := bd_some h
  refine r_cS (Wd := 0) X (fun l D sz => w_X6_in l D sz h1) q1502 q1501 q109 q1503 hy_X6_in rfl dX6_asked_8 rfl rfl (Nat.le_of_ble_eq_true rfl) ⟨Nat.le_of_ble_eq_true rfl, Nat.le_of_ble_eq_true rfl⟩ ⟨Nat.le_of_ble_eq_true rfl, Nat.le_of_ble_eq_true rfl⟩ ?_
  refine r_if_eq (tgt := 23) X dX6_asked_11 (by decide) h (fun c3 h => ?_) (fun c3 h => ?_)
  · refine r_sipush X dX6_asked_23 (by decide) ?_
    cases h
    exact r_iret X hr dX6_asked_26
  · refine r_iload_n X 2 dX6_asked_14 rfl rfl ?_
    refine r_iconst X dX6_asked_15 ?_
    refine r_iconst X dX6_asked_16 ?_
    obtain ⟨r5, h4, h⟩ := bd_some h
    refine r_cS (Wd := 0) X (fun l D sz => w_X6_in l D sz h4) q1502 q1501 q109 q1503 hy_X6_in rfl dX6_asked_17 rfl rfl (Nat.le_of_ble_eq_true rfl) ⟨Nat.le_of_ble_eq_true rfl, Nat.le_of_ble_eq_true rfl⟩ ⟨Nat.le_of_ble_eq_true rfl, Nat.le_of_ble_eq_true rfl⟩ ?_
    refine r_if_ne (tgt := 27) X dX6_asked_20 (by decide) h (fun c6 h => ?_) (fun c6 h => ?_)
    · refine r_sipush X dX6_asked_23 (by decide) ?_
      cases h
      exact r_iret X hr dX6_asked_26
    · refine r_iload_n X 2 dX6_asked_27 rfl rfl ?_
      obtain ⟨hrc14, -, hA, h⟩ := cEq_some h
      by_cases c14 : (x2) = 0
      · have h := hA c14
        refine r_tabIn (tgt := 64) X dX6_asked_28 hrc14 0 c14 (by decide) (by decide) rfl (by decide) ?_
        refine r_aload_n X 0 dX6_asked_64 rfl rfl ?_
        refine r_getA (kf := 42) X ho0.1 rfl (by decide) (by decide) (Or.inl q1283) dX6_asked_65 ?_
        refine r_iload_n X 1 dX6_asked_68 rfl rfl ?_
        refine r_iald X ho0.1 (ho0.2 42 (by decide)) rfl rfl rfl (by decide) dX6_asked_69 h (fun h => ?_)
        cases h
        exact r_iret X hr dX6_asked_70
      have h := h c14
      obtain ⟨hrc15, -, hA, h⟩ := cEq_some h
      by_cases c15 : (x2) = 1
      · have h := hA c15
        refine r_tabIn (tgt := 71) X dX6_asked_28 hrc15 1 c15 (by decide) (by decide) rfl (by decide) ?_
        refine r_aload_n X 0 dX6_asked_71 rfl rfl ?_
        refine r_getA (kf := 43) X ho0.1 rfl (by decide) (by decide) (Or.inl q1284) dX6_asked_72 ?_
        refine r_iload_n X 1 dX6_asked_75 rfl rfl ?_
        refine r_iald X ho0.1 (ho0.2 43 (by decide)) rfl rfl rfl (by decide) dX6_asked_76 h (fun h => ?_)
        cases h
        exact r_iret X hr dX6_asked_77
      have h := h c15
      obtain ⟨hrc16, -, hA, h⟩ := cEq_some h
      by_cases c16 : (x2) = 2
      · have h := hA c16
        refine r_tabIn (tgt := 78) X dX6_asked_28 hrc16 2 c16 (by decide) (by decide) rfl (by decide) ?_
        refine r_aload_n X 0 dX6_asked_78 rfl rfl ?_
        refine r_iload_n X 1 dX6_asked_79 rfl rfl ?_
        obtain ⟨r9, h8, h⟩ := bd_some h
        refine r_cV (Wd := 0) X (fun l D sz => w_X6_askDay l D sz h8) ho0.1 rfl q1701 qs85 q1699 q109 q1702 hy_X6_askDay rfl dX6_asked_80 rfl rfl (Nat.le_of_ble_eq_true rfl) ⟨Nat.le_of_ble_eq_true rfl, Nat.le_of_ble_eq_true rfl⟩ ⟨Nat.le_of_ble_eq_true rfl, Nat.le_of_ble_eq_true rfl⟩ ?_
        cases h
        exact r_iret X hr dX6_asked_83
      have h := h c16
      obtain ⟨hrc17, -, hA, h⟩ := cEq_some h
      by_cases c17 : (x2) = 3
      · have h := hA c17
        refine r_tabIn (tgt := 84) X dX6_asked_28 hrc17 3 c17 (by decide) (by decide) rfl (by decide) ?_
        refine r_aload_n X 0 dX6_asked_84 rfl rfl ?_
        refine r_getA (kf := 47) X ho0.1 rfl (by decide) (by decide) (Or.inl q1288) dX6_asked_85 ?_
        refine r_iload_n X 1 dX6_asked_88 rfl rfl ?_
        refine r_iald X ho0.1 (ho0.2 47 (by decide)) rfl rfl rfl (by decide) dX6_asked_89 h (fun h => ?_)
        cases h
        exact r_iret X hr dX6_asked_90
      have h := h c17
      obtain ⟨hrc18, -, hA, h⟩ := cEq_some h
      by_cases c18 : (x2) = 4
      · have h := hA c18
        refine r_tabIn (tgt := 91) X dX6_asked_28 hrc18 4 c18 (by decide) (by decide) rfl (by decide) ?_
        refine r_aload_n X 0 dX6_asked_91 rfl rfl ?_
        refine r_getA (kf := 48) X ho0.1 rfl (by decide) (by decide) (Or.inl q1289) dX6_asked_92 ?_
        refine r_iload_n X 1 dX6_asked_95 rfl rfl ?_
        refine r_iald X ho0.1 (ho0.2 48 (by decide)) rfl rfl rfl (by decide) dX6_asked_96 h (fun h => ?_)
        cases h
        exact r_iret X hr dX6_asked_97
      have h := h c18
      refine r_tabOut (tgt := 98) X dX6_asked_28 hrc14 (by omega) (by decide) ?_
      refine r_aload_n X 0 dX6_asked_98 rfl rfl ?_
      refine r_getA (kf := 47) X ho0.1 rfl (by decide) (by decide) (Or.inl q1288) dX6_asked_99 ?_
      refine r_iload_n X 1 dX6_asked_102 rfl rfl ?_
      refine r_iald X ho0.1 (ho0.2 47 (by decide)) rfl rfl rfl (by decide) dX6_asked_103 h (fun h => ?_)
      refine r_aload_n X 0 dX6_asked_104 rfl rfl ?_
      refine r_iload_n X 1 dX6_asked_105 rfl rfl ?_
      obtain ⟨r11, h10, h⟩ := bd_some h
      refine r_cV (Wd := 1) X (fun l D sz => w_X6_askDay l D sz h10) ho0.1 rfl q1701 qs85 q1699 q109 q1702 hy_X6_askDay rfl dX6_asked_106 rfl rfl (Nat.le_of_ble_eq_true rfl) ⟨Nat.le_of_ble_eq_true rfl, Nat.le_of_ble_eq_true rfl⟩ ⟨Nat.le_of_ble_eq_true rfl, Nat.le_of_ble_eq_true rfl⟩ ?_
      refine r_isub X dX6_asked_109 ?_
      obtain ⟨r13, h12, h⟩ := bd_some h
      refine r_cS (Wd := 0) X (fun l D sz => w_X6_round l D sz h12) q1685 q1684 q109 q1686 hy_X6_round rfl dX6_asked_110 rfl rfl (Nat.le_of_ble_eq_true rfl) ⟨Nat.le_of_ble_eq_true rfl, Nat.le_of_ble_eq_true rfl⟩ ⟨Nat.le_of_ble_eq_true rfl, Nat.le_of_ble_eq_true rfl⟩ ?_
      cases h
      exact r_iret X hr dX6_asked_113
theorem hy_X6_isSlack : yX6_isSlack.cls ≠ "java/lang/invoke/MethodHandle" ∧ yX6_isSlack.cls ≠ "java/lang/invoke/VarHandle" ∧ (parseMethodDescriptor yX6_isSlack.desc).map (fun d => d.parameters.length) = some 1 := by decide +kernel
set_option maxHeartbeats 4000000 in
theorem w_X6_isSlack (l : Launch) (D : DD) (sz : Nat) {σ : St} {a0 : Nat} {x1 : Int} {w : Int} (h : f_X6_isSlack σ a0 x1 = some w) : Mt l yX6_isSlack cX6_isSlack 2 (some FieldType.boolean) ({ frames := 1, cells := 0, slots := 0, locals := 14 } : Room) D sz σ [.ref a0, iv (x1)] (.returned (some (iv w))) (σ) 0 0 := by
  refine Mt.of (by decide +kernel) (Nat.le_of_ble_eq_true rfl) ?_
  intro Γ X hr hnl hini hnoh
  have X : Cx Γ cX6_isSlack "DayBoyModel" _ := X
  have hL : ∀ i, i < 2 → i < nLc Γ := fun i q => by rw [hnl]; exact q
  show V Γ σ 0 0 0 [(0, .ref (a0)), (1, iv (x1))] []
  unfold f_X6_isSlack at h
  refine r_iload_n X 1 dX6_isSlack_0 rfl rfl ?_
  refine r_iconst X dX6_isSlack_1 ?_
  refine r_sipush X dX6_isSlack_2 (by decide) ?_
  obtain ⟨r2, h1, h⟩ := bd_some h
  refine r_cS (Wd := 0) X (fun l D sz => w_X6_in l D sz h1) q1502 q1501 q109 q1503 hy_X6_in rfl dX6_isSlack_5 rfl rfl (Nat.le_of_ble_eq_true rfl) ⟨Nat.le_of_ble_eq_true rfl, Nat.le_of_ble_eq_true rfl⟩ ⟨Nat.le_of_ble_eq_true rfl, Nat.le_of_ble_eq_true rfl⟩ ?_
  obtain ⟨c3, h⟩ := ck_some h
  cases h
  exact r_zret X hr (c3) dX6_isSlack_8
theorem hy_X6_isSo : yX6_isSo.cls ≠ "java/lang/invoke/MethodHandle" ∧ yX6_isSo.cls ≠ "java/lang/invoke/VarHandle" ∧ (parseMethodDescriptor yX6_isSo.desc).map (fun d => d.parameters.length) = some 3 := by decide +kernel
set_option maxHeartbeats 4000000 in
theorem w_X6_isSo (l : Launch) (D : DD) (sz : Nat) {σ : St} {a0 : Nat} {x1 : Int} {x2 : Int} {x3 : Int} {w : Int × St} (h : f_X6_isSo σ a0 x1 x2 x3 = some w) : Mt l yX6_isSo cX6_isSo 4 (some FieldType.boolean) ({ frames := 6, cells := 0, slots := 0, locals := 101 } : Room) D sz σ [.ref a0, iv (x1), iv (x2), iv (x3)] (.returned (some (iv w.1))) (w.2) 0 0 := by
  refine Mt.of (by decide +kernel) (Nat.le_of_ble_eq_true rfl) ?_
  intro Γ X hr hnl hini hnoh
  have X : Cx Γ cX6_isSo "DayBoyModel" _ := X
  have hL : ∀ i, i < 4 → i < nLc Γ := fun i q => by rw [hnl]; exact q
  show V Γ σ 0 0 0 [(0, .ref (a0)), (1, iv (x1)), (2, iv (x2)), (3, iv (x3))] []
  unfold f_X6_isSo at h
  obtain ⟨ho0, h⟩ := cO_some h
  refine r_aload_n X 0 dX6_isSo_0 rfl rfl ?_
  refine r_iload_n X 1 dX6_isSo_1 rfl rfl ?_
  refine r_aload_n X 0 dX6_isSo_2 rfl rfl ?_
  refine r_getA (kf := 43) X ho0.1 rfl (by decide) (by decide) (Or.inl q1284) dX6_isSo_3 ?_
  refine r_iload_n X 2 dX6_isSo_6 rfl rfl ?_
  refine r_iald X ho0.1 (ho0.2 43 (by decide)) rfl rfl rfl (by decide) dX6_isSo_7 h (fun h => ?_)
  refine r_aload_n X 0 dX6_isSo_8 rfl rfl ?_
  refine r_getA (kf := 44) X ho0.1 rfl (by decide) (by decide) (Or.inl q1285) dX6_isSo_9 ?_
  refine r_iload_n X 2 dX6_isSo_12 rfl rfl ?_
  refine r_iald X ho0.1 (ho0.2 44 (by decide)) rfl rfl rfl (by decide) dX6_isSo_13 h (fun h => ?_)
  refine r_aload_n X 0 dX6_isSo_14 rfl rfl ?_
  refine r_getA (kf := 45) X ho0.1 rfl (by decide) (by decide) (Or.inl q1286) dX6_isSo_15 ?_
  refine r_iload_n X 2 dX6_isSo_18 rfl rfl ?_
  refine r_iald X ho0.1 (ho0.2 45 (by decide)) rfl rfl rfl (by decide) dX6_isSo_19 h (fun h => ?_)
  refine r_aload_n X 0 dX6_isSo_20 rfl rfl ?_
  refine r_getA (kf := 46) X ho0.1 rfl (by decide) (by decide) (Or.inl q1287) dX6_isSo_21 ?_
  refine r_iload_n X 2 dX6_isSo_24 rfl rfl ?_
  refine r_iald X ho0.1 (ho0.2 46 (by decide)) rfl rfl rfl (by decide) dX6_isSo_25 h (fun h => ?_)
  obtain ⟨r2, σ3, h1, h⟩ := bd2_some h
  refine r_cV (Wd := 0) X (fun l D sz => w_X6_answer l D sz h1) ho0.1 rfl q1682 qs83 q1680 q109 q1683 hy_X6_answer rfl dX6_isSo_26 rfl rfl (Nat.le_of_ble_eq_true rfl) ⟨Nat.le_of_ble_eq_true rfl, Nat.le_of_ble_eq_true rfl⟩ ⟨Nat.le_of_ble_eq_true rfl, Nat.le_of_ble_eq_true rfl⟩ ?_
  refine r_if_eq (tgt := 67) X dX6_isSo_29 (by decide) h (fun c4 h => ?_) (fun c4 h => ?_)
  · refine r_iconst X dX6_isSo_67 ?_
    cases h
    exact r_zret X hr (by decide) dX6_isSo_68
  · refine r_aload_n X 0 dX6_isSo_32 rfl rfl ?_
    obtain ⟨ho6, h⟩ := cO_some h
    refine r_getI (kf := 40) X ho6.1 rfl (by decide) rfl (Or.inl q1281) dX6_isSo_33 ?_
    refine r_aload_n X 0 dX6_isSo_36 rfl rfl ?_
    refine r_getA (kf := 47) X ho6.1 rfl (by decide) (by decide) (Or.inl q1288) dX6_isSo_37 ?_
    refine r_iload_n X 2 dX6_isSo_40 rfl rfl ?_
    refine r_iald X ho6.1 (ho6.2 47 (by decide)) rfl rfl rfl (by decide) dX6_isSo_41 h (fun h => ?_)
    refine r_icmp_ne (tgt := 67) X dX6_isSo_42 (by decide) h (fun c7 h => ?_) (fun c7 h => ?_)
    · refine r_aload_n X 0 dX6_isSo_45 rfl rfl ?_
      refine r_getI (kf := 41) X ho6.1 rfl (by decide) rfl (Or.inl q1282) dX6_isSo_46 ?_
      refine r_aload_n X 0 dX6_isSo_49 rfl rfl ?_
      refine r_getA (kf := 48) X ho6.1 rfl (by decide) (by decide) (Or.inl q1289) dX6_isSo_50 ?_
      refine r_iload_n X 2 dX6_isSo_53 rfl rfl ?_
      refine r_iald X ho6.1 (ho6.2 48 (by decide)) rfl rfl rfl (by decide) dX6_isSo_54 h (fun h => ?_)
      refine r_isub X dX6_isSo_55 ?_
      obtain ⟨r9, h8, h⟩ := bd_some h
      refine r_cS (Wd := 0) X (fun l D sz => w_J3_abs l D sz h8) q978 q1719 q115 q979 hy_J3_abs rfl dX6_isSo_56 rfl rfl (Nat.le_of_ble_eq_true rfl) ⟨Nat.le_of_ble_eq_true rfl, Nat.le_of_ble_eq_true rfl⟩ ⟨Nat.le_of_ble_eq_true rfl, Nat.le_of_ble_eq_true rfl⟩ ?_
      refine r_iload_n X 3 dX6_isSo_59 rfl rfl ?_
      refine r_icmp_gt (tgt := 67) X dX6_isSo_60 (by decide) h (fun c10 h => ?_) (fun c10 h => ?_)
      · refine r_iconst X dX6_isSo_67 ?_
        cases h
        exact r_zret X hr (by decide) dX6_isSo_68
      · refine r_iconst X dX6_isSo_63 ?_
        refine r_goto (tgt := 68) X dX6_isSo_64 (by decide) ?_
        cases h
        exact r_zret X hr (by decide) dX6_isSo_68
    · refine r_iconst X dX6_isSo_67 ?_
      cases h
      exact r_zret X hr (by decide) dX6_isSo_68
theorem hy_X6_soMany : yX6_soMany.cls ≠ "java/lang/invoke/MethodHandle" ∧ yX6_soMany.cls ≠ "java/lang/invoke/VarHandle" ∧ (parseMethodDescriptor yX6_soMany.desc).map (fun d => d.parameters.length) = some 2 := by decide +kernel
set_option maxHeartbeats 4000000 in
theorem w_X6_soMany (l : Launch) (D : DD) (sz : Nat) {σ : St} {a0 : Nat} {x1 : Int} {x2 : Int} {w : Int × St} (h : f_X6_soMany σ a0 x1 x2 = some w) : Mt l yX6_soMany cX6_soMany 5 (some FieldType.int) ({ frames := 7, cells := 0, slots := 0, locals := 117 } : Room) D sz σ [.ref a0, iv (x1), iv (x2)] (.returned (some (iv w.1))) (w.2) 0 0 := by
  refine Mt.of (by decide +kernel) (Nat.le_of_ble_eq_true rfl) ?_
  intro Γ X hr hnl hini hnoh
  have X : Cx Γ cX6_soMany "DayBoyModel" _ := X
  have hL : ∀ i, i < 5 → i < nLc Γ := fun i q => by rw [hnl]; exact q
  show V Γ σ 0 0 0 [(0, .ref (a0)), (1, iv (x1)), (2, iv (x2))] []
  unfold f_X6_soMany at h
  obtain ⟨ho0, h⟩ := cO_some h
  refine r_iconst X dX6_soMany_0 ?_
  refine r_istore_n X dX6_soMany_1 rfl (hL 3 (by decide)) (lv' := [(3, iv (0)), (0, .ref (a0)), (1, iv (x1)), (2, iv (x2))]) rfl ?_
  refine r_iconst X dX6_soMany_2 ?_
  refine r_istore X dX6_soMany_3 (hL 4 (by decide)) (lv' := [(4, iv (0)), (3, iv (0)), (0, .ref (a0)), (1, iv (x1)), (2, iv (x2))]) rfl ?_
  have L5 : ∀ s : Int × Int × St, lp (fun s => f_X6_soMany_b5 (a0) (x1) (x2) s.1 s.2.1 s.2.2) s = some w → V Γ (s.2.2) 0 0 5 [(0, .ref (a0)), (1, iv (x1)), (2, iv (x2)), (3, iv (s.1)), (4, iv (s.2.1))] [] := by
    refine lp_rule (P := fun s : Int × Int × St => V Γ (s.2.2) 0 0 5 [(0, .ref (a0)), (1, iv (x1)), (2, iv (x2)), (3, iv (s.1)), (4, iv (s.2.1))] []) ?_
    intro s z1 h ihb1 ihe1
    obtain ⟨v3_1, v4_1, σ_1⟩ := s
    have h : f_X6_soMany_b5 (a0) (x1) (x2) v3_1 v4_1 σ_1 = some z1 := h
    unfold f_X6_soMany_b5 at h
    show V Γ σ_1 0 0 5 [(0, .ref (a0)), (1, iv (x1)), (2, iv (x2)), (3, iv (v3_1)), (4, iv (v4_1))] []
    refine r_iload X 4 dX6_soMany_5 rfl ?_
    refine r_aload_n X 0 dX6_soMany_7 rfl rfl ?_
    obtain ⟨ho1, h⟩ := cO_some h
    refine r_getI (kf := 49) X ho1.1 rfl (by decide) rfl (Or.inl q1290) dX6_soMany_8 ?_
    refine r_icmp_ge (tgt := 39) X dX6_soMany_11 (by decide) h (fun c2 h => ?_) (fun c2 h => ?_)
    · refine r_iload_n X 3 dX6_soMany_14 rfl rfl ?_
      refine r_aload_n X 0 dX6_soMany_15 rfl rfl ?_
      refine r_iload_n X 1 dX6_soMany_16 rfl rfl ?_
      refine r_iload X 4 dX6_soMany_17 rfl ?_
      refine r_iload_n X 2 dX6_soMany_19 rfl rfl ?_
      obtain ⟨r4, σ5, h3, h⟩ := bd2_some h
      refine r_cV (Wd := 1) X (fun l D sz => w_X6_isSo l D sz h3) ho1.1 rfl q1717 qs88 q1715 q109 q1718 hy_X6_isSo rfl dX6_soMany_20 rfl rfl (Nat.le_of_ble_eq_true rfl) ⟨Nat.le_of_ble_eq_true rfl, Nat.le_of_ble_eq_true rfl⟩ ⟨Nat.le_of_ble_eq_true rfl, Nat.le_of_ble_eq_true rfl⟩ ?_
      refine r_if_eq (tgt := 30) X dX6_soMany_23 (by decide) h (fun c6 h => ?_) (fun c6 h => ?_)
      · refine r_iconst X dX6_soMany_30 ?_
        refine r_iadd X dX6_soMany_31 ?_
        refine r_istore_n X dX6_soMany_32 rfl (hL 3 (by decide)) (lv' := [(3, iv ((v3_1 + 0))), (0, .ref (a0)), (1, iv (x1)), (2, iv (x2)), (4, iv (v4_1))]) rfl ?_
        refine r_iinc X 4 dX6_soMany_33 rfl (hL 4 (by decide)) (lv' := [(4, iv ((v4_1 + 1))), (3, iv ((v3_1 + 0))), (0, .ref (a0)), (1, iv (x1)), (2, iv (x2))]) rfl ?_
        refine r_goto (tgt := 5) X dX6_soMany_36 (by decide) ?_
        exact V.sub [2, 3, 4, 1, 0] rfl (ihb1 _ (Option.some.inj h).symm)
      · refine r_iconst X dX6_soMany_26 ?_
        refine r_goto (tgt := 31) X dX6_soMany_27 (by decide) ?_
        refine r_iadd X dX6_soMany_31 ?_
        refine r_istore_n X dX6_soMany_32 rfl (hL 3 (by decide)) (lv' := [(3, iv ((v3_1 + 1))), (0, .ref (a0)), (1, iv (x1)), (2, iv (x2)), (4, iv (v4_1))]) rfl ?_
        refine r_iinc X 4 dX6_soMany_33 rfl (hL 4 (by decide)) (lv' := [(4, iv ((v4_1 + 1))), (3, iv ((v3_1 + 1))), (0, .ref (a0)), (1, iv (x1)), (2, iv (x2))]) rfl ?_
        refine r_goto (tgt := 5) X dX6_soMany_36 (by decide) ?_
        exact V.sub [2, 3, 4, 1, 0] rfl (ihb1 _ (Option.some.inj h).symm)
    · have h := ex_some h ihe1
      refine r_iload_n X 3 dX6_soMany_39 rfl rfl ?_
      cases h
      exact r_iret X hr dX6_soMany_40
  exact V.sub [2, 3, 4, 1, 0] rfl (L5 (0, 0, σ) h)
theorem hy_X6_fits : yX6_fits.cls ≠ "java/lang/invoke/MethodHandle" ∧ yX6_fits.cls ≠ "java/lang/invoke/VarHandle" ∧ (parseMethodDescriptor yX6_fits.desc).map (fun d => d.parameters.length) = some 1 := by decide +kernel
set_option maxHeartbeats 4000000 in
theorem w_X6_fits (l : Launch) (D : DD) (sz : Nat) {σ : St} {a0 : Nat} {x1 : Int} {w : Int × St} (h : f_X6_fits σ a0 x1 = some w) : Mt l yX6_fits cX6_fits 4 (some FieldType.int) ({ frames := 8, cells := 0, slots := 0, locals := 134 } : Room) D sz σ [.ref a0, iv (x1)] (.returned (some (iv w.1))) (w.2) 0 0 := by
  refine Mt.of (by decide +kernel) (Nat.le_of_ble_eq_true rfl) ?_
  intro Γ X hr hnl hini hnoh
  have X : Cx Γ cX6_fits "DayBoyModel" _ := X
  have hL : ∀ i, i < 4 → i < nLc Γ := fun i q => by rw [hnl]; exact q
  show V Γ σ 0 0 0 [(0, .ref (a0)), (1, iv (x1))] []
  unfold f_X6_fits at h
  obtain ⟨ho0, h⟩ := cO_some h
  refine r_aload_n X 0 dX6_fits_0 rfl rfl ?_
  refine r_iload_n X 1 dX6_fits_1 rfl rfl ?_
  obtain ⟨r2, h1, h⟩ := bd_some h
  refine r_cV (Wd := 0) X (fun l D sz => w_X6_isSlack l D sz h1) ho0.1 rfl q1709 qs86 q1707 q109 q1710 hy_X6_isSlack rfl dX6_fits_2 rfl rfl (Nat.le_of_ble_eq_true rfl) ⟨Nat.le_of_ble_eq_true rfl, Nat.le_of_ble_eq_true rfl⟩ ⟨Nat.le_of_ble_eq_true rfl, Nat.le_of_ble_eq_true rfl⟩ ?_
  refine r_if_ne (tgt := 10) X dX6_fits_5 (by decide) h (fun c3 h => ?_) (fun c3 h => ?_)
  · refine r_iconst X dX6_fits_8 ?_
    cases h
    exact r_iret X hr dX6_fits_9
  · refine r_iconst X dX6_fits_10 ?_
    refine r_istore_n X dX6_fits_11 rfl (hL 2 (by decide)) (lv' := [(2, iv (0)), (0, .ref (a0)), (1, iv (x1))]) rfl ?_
    refine r_iconst X dX6_fits_12 ?_
    refine r_istore_n X dX6_fits_13 rfl (hL 3 (by decide)) (lv' := [(3, iv (0)), (2, iv (0)), (0, .ref (a0)), (1, iv (x1))]) rfl ?_
    have L14 : ∀ s : Int × Int × St, lp (fun s => f_X6_fits_b14 (a0) (x1) s.1 s.2.1 s.2.2) s = some w → V Γ (s.2.2) 0 0 14 [(0, .ref (a0)), (1, iv (x1)), (2, iv (s.1)), (3, iv (s.2.1))] [] := by
      refine lp_rule (P := fun s : Int × Int × St => V Γ (s.2.2) 0 0 14 [(0, .ref (a0)), (1, iv (x1)), (2, iv (s.1)), (3, iv (s.2.1))] []) ?_
      intro s z1 h ihb1 ihe1
      obtain ⟨v2_1, v3_1, σ_1⟩ := s
      have h : f_X6_fits_b14 (a0) (x1) v2_1 v3_1 σ_1 = some z1 := h
      unfold f_X6_fits_b14 at h
      show V Γ σ_1 0 0 14 [(0, .ref (a0)), (1, iv (x1)), (2, iv (v2_1)), (3, iv (v3_1))] []
      refine r_iload_n X 3 dX6_fits_14 rfl rfl ?_
      refine r_aload_n X 0 dX6_fits_15 rfl rfl ?_
      obtain ⟨ho4, h⟩ := cO_some h
      refine r_getI (kf := 28) X ho4.1 rfl (by decide) rfl (Or.inl q1269) dX6_fits_16 ?_
      refine r_icmp_ge (tgt := 51) X dX6_fits_19 (by decide) h (fun c5 h => ?_) (fun c5 h => ?_)
      · refine r_iload_n X 2 dX6_fits_22 rfl rfl ?_
        refine r_aload_n X 0 dX6_fits_23 rfl rfl ?_
        refine r_iload_n X 3 dX6_fits_24 rfl rfl ?_
        refine r_iload_n X 1 dX6_fits_25 rfl rfl ?_
        obtain ⟨r7, σ8, h6, h⟩ := bd2_some h
        refine r_cV (Wd := 1) X (fun l D sz => w_X6_soMany l D sz h6) ho4.1 rfl q1713 qs87 q1711 q109 q1714 hy_X6_soMany rfl dX6_fits_26 rfl rfl (Nat.le_of_ble_eq_true rfl) ⟨Nat.le_of_ble_eq_true rfl, Nat.le_of_ble_eq_true rfl⟩ ⟨Nat.le_of_ble_eq_true rfl, Nat.le_of_ble_eq_true rfl⟩ ?_
        refine r_aload_n X 0 dX6_fits_29 rfl rfl ?_
        obtain ⟨ho9, h⟩ := cO_some h
        refine r_getI (kf := 49) X ho9.1 rfl (by decide) rfl (Or.inl q1290) dX6_fits_30 ?_
        refine r_icmp_ne (tgt := 42) X dX6_fits_33 (by decide) h (fun c10 h => ?_) (fun c10 h => ?_)
        · refine r_iconst X dX6_fits_36 ?_
          refine r_iload_n X 3 dX6_fits_37 rfl rfl ?_
          refine r_ishl X dX6_fits_38 ?_
          refine r_goto (tgt := 43) X dX6_fits_39 (by decide) ?_
          refine r_ior X dX6_fits_43 ?_
          refine r_istore_n X dX6_fits_44 rfl (hL 2 (by decide)) (lv' := [(2, iv ((bOr (v2_1) ((bShl (1) (v3_1)))))), (0, .ref (a0)), (1, iv (x1)), (3, iv (v3_1))]) rfl ?_
          refine r_iinc X 3 dX6_fits_45 rfl (hL 3 (by decide)) (lv' := [(3, iv ((v3_1 + 1))), (2, iv ((bOr (v2_1) ((bShl (1) (v3_1)))))), (0, .ref (a0)), (1, iv (x1))]) rfl ?_
          refine r_goto (tgt := 14) X dX6_fits_48 (by decide) ?_
          exact V.sub [2, 3, 1, 0] rfl (ihb1 _ (Option.some.inj h).symm)
        · refine r_iconst X dX6_fits_42 ?_
          refine r_ior X dX6_fits_43 ?_
          refine r_istore_n X dX6_fits_44 rfl (hL 2 (by decide)) (lv' := [(2, iv ((bOr (v2_1) (0)))), (0, .ref (a0)), (1, iv (x1)), (3, iv (v3_1))]) rfl ?_
          refine r_iinc X 3 dX6_fits_45 rfl (hL 3 (by decide)) (lv' := [(3, iv ((v3_1 + 1))), (2, iv ((bOr (v2_1) (0)))), (0, .ref (a0)), (1, iv (x1))]) rfl ?_
          refine r_goto (tgt := 14) X dX6_fits_48 (by decide) ?_
          exact V.sub [2, 3, 1, 0] rfl (ihb1 _ (Option.some.inj h).symm)
      · have h := ex_some h ihe1
        refine r_iload_n X 2 dX6_fits_51 rfl rfl ?_
        cases h
        exact r_iret X hr dX6_fits_52
    exact V.sub [2, 3, 1, 0] rfl (L14 (0, 0, σ) h)
theorem hy_X6_so : yX6_so.cls ≠ "java/lang/invoke/MethodHandle" ∧ yX6_so.cls ≠ "java/lang/invoke/VarHandle" ∧ (parseMethodDescriptor yX6_so.desc).map (fun d => d.parameters.length) = some 2 := by decide +kernel
set_option maxHeartbeats 4000000 in
theorem w_X6_so (l : Launch) (D : DD) (sz : Nat) {σ : St} {a0 : Nat} {x1 : Int} {x2 : Int} {w : Int × St} (h : f_X6_so σ a0 x1 x2 = some w) : Mt l yX6_so cX6_so 3 (some FieldType.int) ({ frames := 8, cells := 0, slots := 0, locals := 133 } : Room) D sz σ [.ref a0, iv (x1), iv (x2)] (.returned (some (iv w.1))) (w.2) 0 0 := by
  refine Mt.of (by decide +kernel) (Nat.le_of_ble_eq_true rfl) ?_
  intro Γ X hr hnl hini hnoh
  have X : Cx Γ cX6_so "DayBoyModel" _ := X
  have hL : ∀ i, i < 3 → i < nLc Γ := fun i q => by rw [hnl]; exact q
  show V Γ σ 0 0 0 [(0, .ref (a0)), (1, iv (x1)), (2, iv (x2))] []
  unfold f_X6_so at h
  obtain ⟨ho0, h⟩ := cO_some h
  refine r_aload_n X 0 dX6_so_0 rfl rfl ?_
  refine r_iload_n X 1 dX6_so_1 rfl rfl ?_
  obtain ⟨r2, h1, h⟩ := bd_some h
  refine r_cV (Wd := 0) X (fun l D sz => w_X6_isHead l D sz h1) ho0.1 rfl q1662 qs79 q1660 q109 q1663 hy_X6_isHead rfl dX6_so_2 rfl rfl (Nat.le_of_ble_eq_true rfl) ⟨Nat.le_of_ble_eq_true rfl, Nat.le_of_ble_eq_true rfl⟩ ⟨Nat.le_of_ble_eq_true rfl, Nat.le_of_ble_eq_true rfl⟩ ?_
  refine r_if_eq (tgt := 25) X dX6_so_5 (by decide) h (fun c3 h => ?_) (fun c3 h => ?_)
  · refine r_iconst X dX6_so_25 ?_
    cases h
    exact r_iret X hr dX6_so_26
  · refine r_aload_n X 0 dX6_so_8 rfl rfl ?_
    refine r_iload_n X 2 dX6_so_9 rfl rfl ?_
    obtain ⟨r5, h4, h⟩ := bd_some h
    refine r_cV (Wd := 0) X (fun l D sz => w_X6_isSlack l D sz h4) ho0.1 rfl q1709 qs86 q1707 q109 q1710 hy_X6_isSlack rfl dX6_so_10 rfl rfl (Nat.le_of_ble_eq_true rfl) ⟨Nat.le_of_ble_eq_true rfl, Nat.le_of_ble_eq_true rfl⟩ ⟨Nat.le_of_ble_eq_true rfl, Nat.le_of_ble_eq_true rfl⟩ ?_
    refine r_if_eq (tgt := 25) X dX6_so_13 (by decide) h (fun c6 h => ?_) (fun c6 h => ?_)
    · refine r_iconst X dX6_so_25 ?_
      cases h
      exact r_iret X hr dX6_so_26
    · refine r_aload_n X 0 dX6_so_16 rfl rfl ?_
      refine r_iload_n X 1 dX6_so_17 rfl rfl ?_
      refine r_iload_n X 2 dX6_so_18 rfl rfl ?_
      obtain ⟨r8, σ9, h7, h⟩ := bd2_some h
      refine r_cV (Wd := 0) X (fun l D sz => w_X6_soMany l D sz h7) ho0.1 rfl q1713 qs87 q1711 q109 q1714 hy_X6_soMany rfl dX6_so_19 rfl rfl (Nat.le_of_ble_eq_true rfl) ⟨Nat.le_of_ble_eq_true rfl, Nat.le_of_ble_eq_true rfl⟩ ⟨Nat.le_of_ble_eq_true rfl, Nat.le_of_ble_eq_true rfl⟩ ?_
      refine r_goto (tgt := 26) X dX6_so_22 (by decide) ?_
      cases h
      exact r_iret X hr dX6_so_26
theorem hy_X6_further : yX6_further.cls ≠ "java/lang/invoke/MethodHandle" ∧ yX6_further.cls ≠ "java/lang/invoke/VarHandle" ∧ (parseMethodDescriptor yX6_further.desc).map (fun d => d.parameters.length) = some 1 := by decide +kernel
set_option maxHeartbeats 4000000 in
theorem w_X6_further (l : Launch) (D : DD) (sz : Nat) {σ : St} {a0 : Nat} {x1 : Int} {w : Int} (h : f_X6_further σ a0 x1 = some w) : Mt l yX6_further cX6_further 6 (some FieldType.int) ({ frames := 1, cells := 0, slots := 0, locals := 15 } : Room) D sz σ [.ref a0, iv (x1)] (.returned (some (iv w))) (σ) 0 0 := by
  refine Mt.of (by decide +kernel) (Nat.le_of_ble_eq_true rfl) ?_
  intro Γ X hr hnl hini hnoh
  have X : Cx Γ cX6_further "DayBoyModel" _ := X
  have hL : ∀ i, i < 6 → i < nLc Γ := fun i q => by rw [hnl]; exact q
  show V Γ σ 0 0 0 [(0, .ref (a0)), (1, iv (x1))] []
  unfold f_X6_further at h
  obtain ⟨ho0, h⟩ := cO_some h
  refine r_iload_n X 1 dX6_further_0 rfl rfl ?_
  refine r_iconst X dX6_further_1 ?_
  refine r_sipush X dX6_further_2 (by decide) ?_
  obtain ⟨r2, h1, h⟩ := bd_some h
  refine r_cS (Wd := 0) X (fun l D sz => w_X6_in l D sz h1) q1502 q1501 q109 q1503 hy_X6_in rfl dX6_further_5 rfl rfl (Nat.le_of_ble_eq_true rfl) ⟨Nat.le_of_ble_eq_true rfl, Nat.le_of_ble_eq_true rfl⟩ ⟨Nat.le_of_ble_eq_true rfl, Nat.le_of_ble_eq_true rfl⟩ ?_
  refine r_if_ne (tgt := 15) X dX6_further_8 (by decide) h (fun c3 h => ?_) (fun c3 h => ?_)
  · refine r_sipush X dX6_further_11 (by decide) ?_
    cases h
    exact r_iret X hr dX6_further_14
  · refine r_iconst X dX6_further_15 ?_
    refine r_istore_n X dX6_further_16 rfl (hL 2 (by decide)) (lv' := [(2, iv (0)), (0, .ref (a0)), (1, iv (x1))]) rfl ?_
    refine r_iconst X dX6_further_17 ?_
    refine r_istore_n X dX6_further_18 rfl (hL 3 (by decide)) (lv' := [(3, iv (0)), (2, iv (0)), (0, .ref (a0)), (1, iv (x1))]) rfl ?_
    have L19 : ∀ s : Int × Int, lp (fun s => f_X6_further_b19 (σ) (a0) (x1) s.1 s.2) s = some w → V Γ (σ) 0 0 19 [(0, .ref (a0)), (1, iv (x1)), (2, iv (s.1)), (3, iv (s.2))] [] := by
      refine lp_rule (P := fun s : Int × Int => V Γ (σ) 0 0 19 [(0, .ref (a0)), (1, iv (x1)), (2, iv (s.1)), (3, iv (s.2))] []) ?_
      intro s z1 h ihb1 ihe1
      obtain ⟨v2_1, v3_1⟩ := s
      have h : f_X6_further_b19 (σ) (a0) (x1) v2_1 v3_1 = some z1 := h
      unfold f_X6_further_b19 at h
      show V Γ σ 0 0 19 [(0, .ref (a0)), (1, iv (x1)), (2, iv (v2_1)), (3, iv (v3_1))] []
      refine r_iload_n X 3 dX6_further_19 rfl rfl ?_
      refine r_aload_n X 0 dX6_further_20 rfl rfl ?_
      refine r_getI (kf := 49) X ho0.1 rfl (by decide) rfl (Or.inl q1290) dX6_further_21 ?_
      refine r_icmp_ge (tgt := 98) X dX6_further_24 (by decide) h (fun c4 h => ?_) (fun c4 h => ?_)
      · refine r_iconst X dX6_further_27 ?_
        refine r_istore X dX6_further_28 (hL 4 (by decide)) (lv' := [(4, iv (0)), (0, .ref (a0)), (1, iv (x1)), (2, iv (v2_1)), (3, iv (v3_1))]) rfl ?_
        have L30 : ∀ s : Int × Int, lp (fun s => f_X6_further_b30 (σ) (a0) (x1) (v3_1) s.1 s.2) s = some z1 → V Γ (σ) 0 0 30 [(0, .ref (a0)), (1, iv (x1)), (2, iv (s.1)), (3, iv (v3_1)), (4, iv (s.2))] [] := by
          refine lp_rule (P := fun s : Int × Int => V Γ (σ) 0 0 30 [(0, .ref (a0)), (1, iv (x1)), (2, iv (s.1)), (3, iv (v3_1)), (4, iv (s.2))] []) ?_
          intro s z2 h ihb2 ihe2
          obtain ⟨v2_2, v4_2⟩ := s
          have h : f_X6_further_b30 (σ) (a0) (x1) (v3_1) v2_2 v4_2 = some z2 := h
          unfold f_X6_further_b30 at h
          show V Γ σ 0 0 30 [(0, .ref (a0)), (1, iv (x1)), (2, iv (v2_2)), (3, iv (v3_1)), (4, iv (v4_2))] []
          refine r_iload X 4 dX6_further_30 rfl ?_
          refine r_iload_n X 3 dX6_further_32 rfl rfl ?_
          refine r_icmp_ge (tgt := 92) X dX6_further_33 (by decide) h (fun c5 h => ?_) (fun c5 h => ?_)
          · refine r_aload_n X 0 dX6_further_36 rfl rfl ?_
            refine r_getA (kf := 44) X ho0.1 rfl (by decide) (by decide) (Or.inl q1285) dX6_further_37 ?_
            refine r_iload_n X 3 dX6_further_40 rfl rfl ?_
            refine r_iald X ho0.1 (ho0.2 44 (by decide)) rfl rfl rfl (by decide) dX6_further_41 h (fun h => ?_)
            refine r_iload_n X 1 dX6_further_42 rfl rfl ?_
            refine r_isub X dX6_further_43 ?_
            obtain ⟨r7, h6, h⟩ := bd_some h
            refine r_cS (Wd := 0) X (fun l D sz => w_J3_abs l D sz h6) q978 q1719 q115 q979 hy_J3_abs rfl dX6_further_44 rfl rfl (Nat.le_of_ble_eq_true rfl) ⟨Nat.le_of_ble_eq_true rfl, Nat.le_of_ble_eq_true rfl⟩ ⟨Nat.le_of_ble_eq_true rfl, Nat.le_of_ble_eq_true rfl⟩ ?_
            refine r_aload_n X 0 dX6_further_47 rfl rfl ?_
            refine r_getA (kf := 44) X ho0.1 rfl (by decide) (by decide) (Or.inl q1285) dX6_further_48 ?_
            refine r_iload X 4 dX6_further_51 rfl ?_
            refine r_iald X ho0.1 (ho0.2 44 (by decide)) rfl rfl rfl (by decide) dX6_further_53 h (fun h => ?_)
            refine r_iload_n X 1 dX6_further_54 rfl rfl ?_
            refine r_isub X dX6_further_55 ?_
            obtain ⟨r9, h8, h⟩ := bd_some h
            refine r_cS (Wd := 1) X (fun l D sz => w_J3_abs l D sz h8) q978 q1719 q115 q979 hy_J3_abs rfl dX6_further_56 rfl rfl (Nat.le_of_ble_eq_true rfl) ⟨Nat.le_of_ble_eq_true rfl, Nat.le_of_ble_eq_true rfl⟩ ⟨Nat.le_of_ble_eq_true rfl, Nat.le_of_ble_eq_true rfl⟩ ?_
            obtain ⟨r11, h10, h⟩ := bd_some h
            refine r_cS (Wd := 0) X (fun l D sz => w_J5_compare l D sz h10) q989 q1728 q125 q990 hy_J5_compare rfl dX6_further_59 rfl rfl (Nat.le_of_ble_eq_true rfl) ⟨Nat.le_of_ble_eq_true rfl, Nat.le_of_ble_eq_true rfl⟩ ⟨Nat.le_of_ble_eq_true rfl, Nat.le_of_ble_eq_true rfl⟩ ?_
            refine r_istore X dX6_further_62 (hL 5 (by decide)) (lv' := [(5, iv (r11)), (0, .ref (a0)), (1, iv (x1)), (2, iv (v2_2)), (3, iv (v3_1)), (4, iv (v4_2))]) rfl ?_
            refine r_iload_n X 3 dX6_further_64 rfl rfl ?_
            refine r_iload X 0 dX6_further_65 rfl ?_
            refine r_aload_n X 1 dX6_further_67 rfl rfl ?_
            refine r_getA (kf := 48) X ho0.1 rfl (by decide) (by decide) (Or.inl q1289) dX6_further_68 ?_
            refine r_iload_n X 4 dX6_further_71 rfl rfl ?_
            refine r_iald X ho0.1 (ho0.2 48 (by decide)) rfl rfl rfl (by decide) dX6_further_72 h (fun h => ?_)
            refine r_aload_n X 1 dX6_further_73 rfl rfl ?_
            refine r_getA (kf := 48) X ho0.1 rfl (by decide) (by decide) (Or.inl q1289) dX6_further_74 ?_
            refine r_iload X 5 dX6_further_77 rfl ?_
            refine r_iald X ho0.1 (ho0.2 48 (by decide)) rfl rfl rfl (by decide) dX6_further_79 h (fun h => ?_)
            obtain ⟨r13, h12, h⟩ := bd_some h
            refine r_cS (Wd := 2) X (fun l D sz => w_J5_compare l D sz h12) q989 q1728 q125 q990 hy_J5_compare rfl dX6_further_80 rfl rfl (Nat.le_of_ble_eq_true rfl) ⟨Nat.le_of_ble_eq_true rfl, Nat.le_of_ble_eq_true rfl⟩ ⟨Nat.le_of_ble_eq_true rfl, Nat.le_of_ble_eq_true rfl⟩ ?_
            refine r_imul X dX6_further_83 ?_
            refine r_iadd X dX6_further_84 ?_
            refine r_istore_n X dX6_further_85 rfl (hL 2 (by decide)) (lv' := [(2, iv ((v2_2 + (r11 * r13)))), (5, iv (r11)), (0, .ref (a0)), (1, iv (x1)), (3, iv (v3_1)), (4, iv (v4_2))]) rfl ?_
            refine r_iinc X 5 dX6_further_86 rfl (hL 4 (by decide)) (lv' := [(4, iv ((v4_2 + 1))), (2, iv ((v2_2 + (r11 * r13)))), (5, iv (r11)), (0, .ref (a0)), (1, iv (x1)), (3, iv (v3_1))]) rfl ?_
            refine r_goto (tgt := 30) X dX6_further_89 (by decide) ?_
            exact V.sub [3, 4, 1, 5, 0] rfl (ihb2 _ (Option.some.inj h).symm)
          · have h := ex_some h ihe2
            refine r_iinc X 3 dX6_further_92 rfl (hL 3 (by decide)) (lv' := [(3, iv ((v3_1 + 1))), (0, .ref (a0)), (1, iv (x1)), (2, iv (v2_2)), (4, iv (v4_2))]) rfl ?_
            refine r_goto (tgt := 19) X dX6_further_95 (by decide) ?_
            exact V.sub [1, 2, 3, 0] rfl (ihb1 _ (Option.some.inj h).symm)
        exact V.sub [1, 2, 3, 4, 0] rfl (L30 (v2_1, 0) h)
      · have h := ex_some h ihe1
        refine r_iload_n X 2 dX6_further_98 rfl rfl ?_
        cases h
        exact r_iret X hr dX6_further_99
    exact V.sub [2, 3, 1, 0] rfl (L19 (0, 0) h)
theorem hy_X6_mean : yX6_mean.cls ≠ "java/lang/invoke/MethodHandle" ∧ yX6_mean.cls ≠ "java/lang/invoke/VarHandle" ∧ (parseMethodDescriptor yX6_mean.desc).map (fun d => d.parameters.length) = some 2 := by decide +kernel
set_option maxHeartbeats 4000000 in
theorem w_X6_mean (l : Launch) (D : DD) (sz : Nat) {σ : St} {x0 : Int} {x1 : Int} {w : Int} (h : f_X6_mean σ x0 x1 = some w) : Mt l yX6_mean cX6_mean 2 (some FieldType.int) ({ frames := 0, cells := 0, slots := 0, locals := 0 } : Room) D sz σ [iv (x0), iv (x1)] (.returned (some (iv w))) (σ) 0 0 := by
  refine Mt.of (by decide +kernel) (Nat.le_of_ble_eq_true rfl) ?_
  intro Γ X hr hnl hini hnoh
  have X : Cx Γ cX6_mean "DayBoyModel" _ := X
  have hL : ∀ i, i < 2 → i < nLc Γ := fun i q => by rw [hnl]; exact q
  show V Γ σ 0 0 0 [(0, iv (x0)), (1, iv (x1))] []
  unfold f_X6_mean at h
  refine r_iload_n X 1 dX6_mean_0 rfl rfl ?_
  refine r_if_ne (tgt := 8) X dX6_mean_1 (by decide) h (fun c1 h => ?_) (fun c1 h => ?_)
  · refine r_iconst X dX6_mean_4 ?_
    refine r_goto (tgt := 11) X dX6_mean_5 (by decide) ?_
    cases h
    exact r_iret X hr dX6_mean_11
  · refine r_iload_n X 0 dX6_mean_8 rfl rfl ?_
    refine r_iload_n X 1 dX6_mean_9 rfl rfl ?_
    obtain ⟨⟨c2, c3, c4⟩, h⟩ := ck_some h
    refine r_idiv X dX6_mean_10 c2 c3 c4 ?_
    cases h
    exact r_iret X hr dX6_mean_11
theorem hy_X6_lived : yX6_lived.cls ≠ "java/lang/invoke/MethodHandle" ∧ yX6_lived.cls ≠ "java/lang/invoke/VarHandle" ∧ (parseMethodDescriptor yX6_lived.desc).map (fun d => d.parameters.length) = some 1 := by decide +kernel
set_option maxHeartbeats 4000000 in
theorem w_X6_lived (l : Launch) (D : DD) (sz : Nat) {σ : St} {a0 : Nat} {x1 : Int} {w : Int} (h : f_X6_lived σ a0 x1 = some w) : Mt l yX6_lived cX6_lived 5 (some FieldType.int) ({ frames := 5, cells := 0, slots := 0, locals := 81 } : Room) D sz σ [.ref a0, iv (x1)] (.returned (some (iv w))) (σ) 0 0 := by
  refine Mt.of (by decide +kernel) (Nat.le_of_ble_eq_true rfl) ?_
  intro Γ X hr hnl hini hnoh
  have X : Cx Γ cX6_lived "DayBoyModel" _ := X
  have hL : ∀ i, i < 5 → i < nLc Γ := fun i q => by rw [hnl]; exact q
  show V Γ σ 0 0 0 [(0, .ref (a0)), (1, iv (x1))] []
  unfold f_X6_lived at h
  obtain ⟨ho0, h⟩ := cO_some h
  refine r_aload_n X 0 dX6_lived_0 rfl rfl ?_
  refine r_getI (kf := 56) X ho0.1 rfl (by decide) rfl (Or.inl q1297) dX6_lived_1 ?_
  refine r_iconst X dX6_lived_4 ?_
  refine r_icmp_eq (tgt := 17) X dX6_lived_5 (by decide) h (fun c1 h => ?_) (fun c1 h => ?_)
  · refine r_iconst X dX6_lived_17 ?_
    cases h
    exact r_iret X hr dX6_lived_18
  · refine r_iload_n X 1 dX6_lived_8 rfl rfl ?_
    refine r_iconst X dX6_lived_9 ?_
    refine r_iconst X dX6_lived_10 ?_
    obtain ⟨r3, h2, h⟩ := bd_some h
    refine r_cS (Wd := 0) X (fun l D sz => w_X6_in l D sz h2) q1502 q1501 q109 q1503 hy_X6_in rfl dX6_lived_11 rfl rfl (Nat.le_of_ble_eq_true rfl) ⟨Nat.le_of_ble_eq_true rfl, Nat.le_of_ble_eq_true rfl⟩ ⟨Nat.le_of_ble_eq_true rfl, Nat.le_of_ble_eq_true rfl⟩ ?_
    refine r_if_ne (tgt := 19) X dX6_lived_14 (by decide) h (fun c4 h => ?_) (fun c4 h => ?_)
    · refine r_iconst X dX6_lived_17 ?_
      cases h
      exact r_iret X hr dX6_lived_18
    · refine r_iconst X dX6_lived_19 ?_
      refine r_istore_n X dX6_lived_20 rfl (hL 2 (by decide)) (lv' := [(2, iv (0)), (0, .ref (a0)), (1, iv (x1))]) rfl ?_
      refine r_iconst X dX6_lived_21 ?_
      refine r_istore_n X dX6_lived_22 rfl (hL 3 (by decide)) (lv' := [(3, iv (0)), (2, iv (0)), (0, .ref (a0)), (1, iv (x1))]) rfl ?_
      refine r_iconst X dX6_lived_23 ?_
      refine r_istore X dX6_lived_24 (hL 4 (by decide)) (lv' := [(4, iv (0)), (3, iv (0)), (2, iv (0)), (0, .ref (a0)), (1, iv (x1))]) rfl ?_
      have L26 : ∀ s : Int × Int × Int, lp (fun s => f_X6_lived_b26 (σ) (a0) (x1) s.1 s.2.1 s.2.2) s = some w → V Γ (σ) 0 0 26 [(0, .ref (a0)), (1, iv (x1)), (2, iv (s.1)), (3, iv (s.2.1)), (4, iv (s.2.2))] [] := by
        refine lp_rule (P := fun s : Int × Int × Int => V Γ (σ) 0 0 26 [(0, .ref (a0)), (1, iv (x1)), (2, iv (s.1)), (3, iv (s.2.1)), (4, iv (s.2.2))] []) ?_
        intro s z1 h ihb1 ihe1
        obtain ⟨v2_1, v3_1, v4_1⟩ := s
        have h : f_X6_lived_b26 (σ) (a0) (x1) v2_1 v3_1 v4_1 = some z1 := h
        unfold f_X6_lived_b26 at h
        show V Γ σ 0 0 26 [(0, .ref (a0)), (1, iv (x1)), (2, iv (v2_1)), (3, iv (v3_1)), (4, iv (v4_1))] []
        have J62 : ∀ (v2_j62 : Int) (v3_j62 : Int) (v4_j62 : Int) (t0_j62 : Int) (t1_j62 : Int), f_X6_lived_j62 (σ) (a0) (x1) v2_j62 v3_j62 v4_j62 t0_j62 t1_j62 = some z1 → V Γ σ 0 0 62 [(0, .ref (a0)), (1, iv (x1)), (2, iv (v2_j62)), (3, iv (v3_j62)), (4, iv (v4_j62))] [iv (t0_j62), iv (t1_j62)] := by
          intro v2_j62 v3_j62 v4_j62 t0_j62 t1_j62 h
          unfold f_X6_lived_j62 at h
          refine r_icmp_ne (tgt := 78) X dX6_lived_62 (by decide) h (fun c5 h => ?_) (fun c5 h => ?_)
          · refine r_iload_n X 2 dX6_lived_65 rfl rfl ?_
            refine r_aload_n X 0 dX6_lived_66 rfl rfl ?_
            refine r_getA (kf := 48) X ho0.1 rfl (by decide) (by decide) (Or.inl q1289) dX6_lived_67 ?_
            refine r_iload X 4 dX6_lived_70 rfl ?_
            refine r_iald X ho0.1 (ho0.2 48 (by decide)) rfl rfl rfl (by decide) dX6_lived_72 h (fun h => ?_)
            refine r_iadd X dX6_lived_73 ?_
            refine r_istore_n X dX6_lived_74 rfl (hL 2 (by decide)) (lv' := [(2, iv ((v2_j62 + (gI (σ) (a0) 48 (v4_j62))))), (0, .ref (a0)), (1, iv (x1)), (3, iv (v3_j62)), (4, iv (v4_j62))]) rfl ?_
            refine r_iinc X 3 dX6_lived_75 rfl (hL 3 (by decide)) (lv' := [(3, iv ((v3_j62 + 1))), (2, iv ((v2_j62 + (gI (σ) (a0) 48 (v4_j62))))), (0, .ref (a0)), (1, iv (x1)), (4, iv (v4_j62))]) rfl ?_
            refine r_iinc X 4 dX6_lived_78 rfl (hL 4 (by decide)) (lv' := [(4, iv ((v4_j62 + 1))), (3, iv ((v3_j62 + 1))), (2, iv ((v2_j62 + (gI (σ) (a0) 48 (v4_j62))))), (0, .ref (a0)), (1, iv (x1))]) rfl ?_
            refine r_goto (tgt := 26) X dX6_lived_81 (by decide) ?_
            exact V.sub [3, 4, 2, 1, 0] rfl (ihb1 _ (Option.some.inj h).symm)
          · refine r_iinc X 4 dX6_lived_78 rfl (hL 4 (by decide)) (lv' := [(4, iv ((v4_j62 + 1))), (0, .ref (a0)), (1, iv (x1)), (2, iv (v2_j62)), (3, iv (v3_j62))]) rfl ?_
            refine r_goto (tgt := 26) X dX6_lived_81 (by decide) ?_
            exact V.sub [1, 2, 3, 4, 0] rfl (ihb1 _ (Option.some.inj h).symm)
        have J53 : ∀ (v2_j53 : Int) (v3_j53 : Int) (v4_j53 : Int) (t0_j53 : Int), f_X6_lived_j53 (σ) (a0) (x1) v2_j53 v3_j53 v4_j53 t0_j53 = some z1 → V Γ σ 0 0 53 [(0, .ref (a0)), (1, iv (x1)), (2, iv (v2_j53)), (3, iv (v3_j53)), (4, iv (v4_j53))] [iv (t0_j53)] := by
          intro v2_j53 v3_j53 v4_j53 t0_j53 h
          unfold f_X6_lived_j53 at h
          refine r_iload_n X 1 dX6_lived_53 rfl rfl ?_
          refine r_if_ne (tgt := 61) X dX6_lived_54 (by decide) h (fun c6 h => ?_) (fun c6 h => ?_)
          · refine r_iconst X dX6_lived_57 ?_
            refine r_goto (tgt := 62) X dX6_lived_58 (by decide) ?_
            exact V.sub [0, 1, 2, 3, 4] rfl (J62 (v2_j53) (v3_j53) (v4_j53) (1) (t0_j53) h)
          · refine r_iconst X dX6_lived_61 ?_
            exact V.sub [0, 1, 2, 3, 4] rfl (J62 (v2_j53) (v3_j53) (v4_j53) (0) (t0_j53) h)
        refine r_iload X 4 dX6_lived_26 rfl ?_
        refine r_aload_n X 0 dX6_lived_28 rfl rfl ?_
        refine r_getI (kf := 49) X ho0.1 rfl (by decide) rfl (Or.inl q1290) dX6_lived_29 ?_
        refine r_icmp_ge (tgt := 84) X dX6_lived_32 (by decide) h (fun c7 h => ?_) (fun c7 h => ?_)
        · refine r_aload_n X 0 dX6_lived_35 rfl rfl ?_
          refine r_iload X 4 dX6_lived_36 rfl ?_
          obtain ⟨r9, h8, h⟩ := bd_some h
          refine r_cV (Wd := 0) X (fun l D sz => w_X6_askDay l D sz h8) ho0.1 rfl q1701 qs85 q1699 q109 q1702 hy_X6_askDay rfl dX6_lived_38 rfl rfl (Nat.le_of_ble_eq_true rfl) ⟨Nat.le_of_ble_eq_true rfl, Nat.le_of_ble_eq_true rfl⟩ ⟨Nat.le_of_ble_eq_true rfl, Nat.le_of_ble_eq_true rfl⟩ ?_
          refine r_aload_n X 0 dX6_lived_41 rfl rfl ?_
          refine r_getI (kf := 56) X ho0.1 rfl (by decide) rfl (Or.inl q1297) dX6_lived_42 ?_
          refine r_icmp_lt (tgt := 52) X dX6_lived_45 (by decide) h (fun c10 h => ?_) (fun c10 h => ?_)
          · refine r_iconst X dX6_lived_52 ?_
            exact V.sub [0, 1, 2, 3, 4] rfl (J53 (v2_1) (v3_1) (v4_1) (0) h)
          · refine r_iconst X dX6_lived_48 ?_
            refine r_goto (tgt := 53) X dX6_lived_49 (by decide) ?_
            exact V.sub [0, 1, 2, 3, 4] rfl (J53 (v2_1) (v3_1) (v4_1) (1) h)
        · have h := ex_some h ihe1
          refine r_iload_n X 2 dX6_lived_84 rfl rfl ?_
          refine r_iload_n X 3 dX6_lived_85 rfl rfl ?_
          obtain ⟨r12, h11, h⟩ := bd_some h
          refine r_cS (Wd := 0) X (fun l D sz => w_X6_mean l D sz h11) q1734 q1733 q109 q1735 hy_X6_mean rfl dX6_lived_86 rfl rfl (Nat.le_of_ble_eq_true rfl) ⟨Nat.le_of_ble_eq_true rfl, Nat.le_of_ble_eq_true rfl⟩ ⟨Nat.le_of_ble_eq_true rfl, Nat.le_of_ble_eq_true rfl⟩ ?_
          cases h
          exact r_iret X hr dX6_lived_89
      exact V.sub [3, 4, 2, 1, 0] rfl (L26 (0, 0, 0) h)
theorem hy_X6_after : yX6_after.cls ≠ "java/lang/invoke/MethodHandle" ∧ yX6_after.cls ≠ "java/lang/invoke/VarHandle" ∧ (parseMethodDescriptor yX6_after.desc).map (fun d => d.parameters.length) = some 1 := by decide +kernel
set_option maxHeartbeats 4000000 in
theorem w_X6_after (l : Launch) (D : DD) (sz : Nat) {σ : St} {a0 : Nat} {x1 : Int} {w : Int} (h : f_X6_after σ a0 x1 = some w) : Mt l yX6_after cX6_after 7 (some FieldType.int) ({ frames := 5, cells := 0, slots := 0, locals := 85 } : Room) D sz σ [.ref a0, iv (x1)] (.returned (some (iv w))) (σ) 0 0 := by
  refine Mt.of (by decide +kernel) (Nat.le_of_ble_eq_true rfl) ?_
  intro Γ X hr hnl hini hnoh
  have X : Cx Γ cX6_after "DayBoyModel" _ := X
  have hL : ∀ i, i < 7 → i < nLc Γ := fun i q => by rw [hnl]; exact q
  show V Γ σ 0 0 0 [(0, .ref (a0)), (1, iv (x1))] []
  unfold f_X6_after at h
  obtain ⟨ho0, h⟩ := cO_some h
  refine r_iload_n X 1 dX6_after_0 rfl rfl ?_
  refine r_iconst X dX6_after_1 ?_
  refine r_iconst X dX6_after_2 ?_
  obtain ⟨r2, h1, h⟩ := bd_some h
  refine r_cS (Wd := 0) X (fun l D sz => w_X6_in l D sz h1) q1502 q1501 q109 q1503 hy_X6_in rfl dX6_after_3 rfl rfl (Nat.le_of_ble_eq_true rfl) ⟨Nat.le_of_ble_eq_true rfl, Nat.le_of_ble_eq_true rfl⟩ ⟨Nat.le_of_ble_eq_true rfl, Nat.le_of_ble_eq_true rfl⟩ ?_
  refine r_if_ne (tgt := 11) X dX6_after_6 (by decide) h (fun c3 h => ?_) (fun c3 h => ?_)
  · refine r_iconst X dX6_after_9 ?_
    cases h
    exact r_iret X hr dX6_after_10
  · refine r_iconst X dX6_after_11 ?_
    refine r_istore_n X dX6_after_12 rfl (hL 2 (by decide)) (lv' := [(2, iv (0)), (0, .ref (a0)), (1, iv (x1))]) rfl ?_
    refine r_iconst X dX6_after_13 ?_
    refine r_istore_n X dX6_after_14 rfl (hL 3 (by decide)) (lv' := [(3, iv (0)), (2, iv (0)), (0, .ref (a0)), (1, iv (x1))]) rfl ?_
    refine r_iconst X dX6_after_15 ?_
    refine r_istore X dX6_after_16 (hL 4 (by decide)) (lv' := [(4, iv (1)), (3, iv (0)), (2, iv (0)), (0, .ref (a0)), (1, iv (x1))]) rfl ?_
    have L18 : ∀ s : Int × Int × Int, lp (fun s => f_X6_after_b18 (σ) (a0) (x1) s.1 s.2.1 s.2.2) s = some w → V Γ (σ) 0 0 18 [(0, .ref (a0)), (1, iv (x1)), (2, iv (s.1)), (3, iv (s.2.1)), (4, iv (s.2.2))] [] := by
      refine lp_rule (P := fun s : Int × Int × Int => V Γ (σ) 0 0 18 [(0, .ref (a0)), (1, iv (x1)), (2, iv (s.1)), (3, iv (s.2.1)), (4, iv (s.2.2))] []) ?_
      intro s z1 h ihb1 ihe1
      obtain ⟨v2_1, v3_1, v4_1⟩ := s
      have h : f_X6_after_b18 (σ) (a0) (x1) v2_1 v3_1 v4_1 = some z1 := h
      unfold f_X6_after_b18 at h
      show V Γ σ 0 0 18 [(0, .ref (a0)), (1, iv (x1)), (2, iv (v2_1)), (3, iv (v3_1)), (4, iv (v4_1))] []
      have J98 : ∀ (v2_j98 : Int) (v3_j98 : Int) (v4_j98 : Int) (t0_j98 : Int) (t1_j98 : Int), f_X6_after_j98 (σ) (a0) (x1) v2_j98 v3_j98 v4_j98 t0_j98 t1_j98 = some z1 → V Γ σ 0 0 98 [(0, .ref (a0)), (1, iv (x1)), (2, iv (v2_j98)), (3, iv (v3_j98)), (4, iv (v4_j98))] [iv (t0_j98), iv (t1_j98)] := by
        intro v2_j98 v3_j98 v4_j98 t0_j98 t1_j98 h
        unfold f_X6_after_j98 at h
        refine r_icmp_ne (tgt := 114) X dX6_after_98 (by decide) h (fun c4 h => ?_) (fun c4 h => ?_)
        · refine r_iload_n X 2 dX6_after_101 rfl rfl ?_
          refine r_aload_n X 0 dX6_after_102 rfl rfl ?_
          refine r_getA (kf := 48) X ho0.1 rfl (by decide) (by decide) (Or.inl q1289) dX6_after_103 ?_
          refine r_iload X 4 dX6_after_106 rfl ?_
          refine r_iald X ho0.1 (ho0.2 48 (by decide)) rfl rfl rfl (by decide) dX6_after_108 h (fun h => ?_)
          refine r_iadd X dX6_after_109 ?_
          refine r_istore_n X dX6_after_110 rfl (hL 2 (by decide)) (lv' := [(2, iv ((v2_j98 + (gI (σ) (a0) 48 (v4_j98))))), (0, .ref (a0)), (1, iv (x1)), (3, iv (v3_j98)), (4, iv (v4_j98))]) rfl ?_
          refine r_iinc X 3 dX6_after_111 rfl (hL 3 (by decide)) (lv' := [(3, iv ((v3_j98 + 1))), (2, iv ((v2_j98 + (gI (σ) (a0) 48 (v4_j98))))), (0, .ref (a0)), (1, iv (x1)), (4, iv (v4_j98))]) rfl ?_
          refine r_iinc X 4 dX6_after_114 rfl (hL 4 (by decide)) (lv' := [(4, iv ((v4_j98 + 1))), (3, iv ((v3_j98 + 1))), (2, iv ((v2_j98 + (gI (σ) (a0) 48 (v4_j98))))), (0, .ref (a0)), (1, iv (x1))]) rfl ?_
          refine r_goto (tgt := 18) X dX6_after_117 (by decide) ?_
          exact V.sub [3, 4, 2, 1, 0] rfl (ihb1 _ (Option.some.inj h).symm)
        · refine r_iinc X 4 dX6_after_114 rfl (hL 4 (by decide)) (lv' := [(4, iv ((v4_j98 + 1))), (0, .ref (a0)), (1, iv (x1)), (2, iv (v2_j98)), (3, iv (v3_j98))]) rfl ?_
          refine r_goto (tgt := 18) X dX6_after_117 (by decide) ?_
          exact V.sub [1, 2, 3, 4, 0] rfl (ihb1 _ (Option.some.inj h).symm)
      have J85 : ∀ (v2_j85 : Int) (v3_j85 : Int) (v4_j85 : Int) (t0_j85 : Int), f_X6_after_j85 (σ) (a0) (x1) v2_j85 v3_j85 v4_j85 t0_j85 = some z1 → V Γ σ 0 0 85 [(0, .ref (a0)), (1, iv (x1)), (2, iv (v2_j85)), (3, iv (v3_j85)), (4, iv (v4_j85))] [iv (t0_j85)] := by
        intro v2_j85 v3_j85 v4_j85 t0_j85 h
        unfold f_X6_after_j85 at h
        refine r_istore X dX6_after_85 (hL 6 (by decide)) (lv' := [(6, iv (t0_j85)), (0, .ref (a0)), (1, iv (x1)), (2, iv (v2_j85)), (3, iv (v3_j85)), (4, iv (v4_j85))]) rfl ?_
        refine r_iload X 0 dX6_after_87 rfl ?_
        refine r_iload_n X 2 dX6_after_89 rfl rfl ?_
        refine r_if_ne (tgt := 97) X dX6_after_90 (by decide) h (fun c5 h => ?_) (fun c5 h => ?_)
        · refine r_iconst X dX6_after_93 ?_
          refine r_goto (tgt := 98) X dX6_after_94 (by decide) ?_
          exact V.sub [1, 2, 3, 4, 5] rfl (J98 (v2_j85) (v3_j85) (v4_j85) (1) (t0_j85) h)
        · refine r_iconst X dX6_after_97 ?_
          exact V.sub [1, 2, 3, 4, 5] rfl (J98 (v2_j85) (v3_j85) (v4_j85) (0) (t0_j85) h)
      have J84 : ∀ (v2_j84 : Int) (v3_j84 : Int) (v4_j84 : Int), f_X6_after_j84 (σ) (a0) (x1) v2_j84 v3_j84 v4_j84 = some z1 → V Γ σ 0 0 84 [(0, .ref (a0)), (1, iv (x1)), (2, iv (v2_j84)), (3, iv (v3_j84)), (4, iv (v4_j84))] [] := by
        intro v2_j84 v3_j84 v4_j84 h
        unfold f_X6_after_j84 at h
        refine r_iconst X dX6_after_84 ?_
        exact V.sub [0, 1, 2, 3, 4] rfl (J85 (v2_j84) (v3_j84) (v4_j84) (0) h)
      refine r_iload X 4 dX6_after_18 rfl ?_
      refine r_aload_n X 0 dX6_after_20 rfl rfl ?_
      refine r_getI (kf := 49) X ho0.1 rfl (by decide) rfl (Or.inl q1290) dX6_after_21 ?_
      refine r_icmp_ge (tgt := 120) X dX6_after_24 (by decide) h (fun c6 h => ?_) (fun c6 h => ?_)
      · refine r_aload_n X 0 dX6_after_27 rfl rfl ?_
        refine r_aload_n X 0 dX6_after_28 rfl rfl ?_
        refine r_getA (kf := 43) X ho0.1 rfl (by decide) (by decide) (Or.inl q1284) dX6_after_29 ?_
        refine r_iload X 4 dX6_after_32 rfl ?_
        refine r_iald X ho0.1 (ho0.2 43 (by decide)) rfl rfl rfl (by decide) dX6_after_34 h (fun h => ?_)
        refine r_aload_n X 0 dX6_after_35 rfl rfl ?_
        refine r_getA (kf := 44) X ho0.1 rfl (by decide) (by decide) (Or.inl q1285) dX6_after_36 ?_
        refine r_iload X 4 dX6_after_39 rfl ?_
        refine r_iald X ho0.1 (ho0.2 44 (by decide)) rfl rfl rfl (by decide) dX6_after_41 h (fun h => ?_)
        obtain ⟨r8, h7, h⟩ := bd_some h
        refine r_cV (Wd := 0) X (fun l D sz => w_X6_kindOf l D sz h7) ho0.1 rfl q1654 qs78 q1652 q109 q1655 hy_X6_kindOf rfl dX6_after_42 rfl rfl (Nat.le_of_ble_eq_true rfl) ⟨Nat.le_of_ble_eq_true rfl, Nat.le_of_ble_eq_true rfl⟩ ⟨Nat.le_of_ble_eq_true rfl, Nat.le_of_ble_eq_true rfl⟩ ?_
        refine r_istore X dX6_after_45 (hL 5 (by decide)) (lv' := [(5, iv (r8)), (0, .ref (a0)), (1, iv (x1)), (2, iv (v2_1)), (3, iv (v3_1)), (4, iv (v4_1))]) rfl ?_
        refine r_iload X 0 dX6_after_47 rfl ?_
        refine r_iconst X dX6_after_49 ?_
        refine r_icmp_eq (tgt := 84) X dX6_after_50 (by decide) h (fun c9 h => ?_) (fun c9 h => ?_)
        · exact V.sub [1, 2, 3, 4, 5] rfl (J84 (v2_1) (v3_1) (v4_1) h)
        · refine r_iload X 0 dX6_after_53 rfl ?_
          refine r_aload_n X 1 dX6_after_55 rfl rfl ?_
          refine r_aload_n X 1 dX6_after_56 rfl rfl ?_
          refine r_getA (kf := 43) X ho0.1 rfl (by decide) (by decide) (Or.inl q1284) dX6_after_57 ?_
          refine r_iload X 5 dX6_after_60 rfl ?_
          refine r_iconst X dX6_after_62 ?_
          refine r_isub X dX6_after_63 ?_
          refine r_iald X ho0.1 (ho0.2 43 (by decide)) rfl rfl rfl (by decide) dX6_after_64 h (fun h => ?_)
          refine r_aload_n X 1 dX6_after_65 rfl rfl ?_
          refine r_getA (kf := 44) X ho0.1 rfl (by decide) (by decide) (Or.inl q1285) dX6_after_66 ?_
          refine r_iload X 5 dX6_after_69 rfl ?_
          refine r_iconst X dX6_after_71 ?_
          refine r_isub X dX6_after_72 ?_
          refine r_iald X ho0.1 (ho0.2 44 (by decide)) rfl rfl rfl (by decide) dX6_after_73 h (fun h => ?_)
          obtain ⟨r11, h10, h⟩ := bd_some h
          refine r_cV (Wd := 1) X (fun l D sz => w_X6_kindOf l D sz h10) ho0.1 rfl q1654 qs78 q1652 q109 q1655 hy_X6_kindOf rfl dX6_after_74 rfl rfl (Nat.le_of_ble_eq_true rfl) ⟨Nat.le_of_ble_eq_true rfl, Nat.le_of_ble_eq_true rfl⟩ ⟨Nat.le_of_ble_eq_true rfl, Nat.le_of_ble_eq_true rfl⟩ ?_
          refine r_icmp_ne (tgt := 84) X dX6_after_77 (by decide) h (fun c12 h => ?_) (fun c12 h => ?_)
          · refine r_iconst X dX6_after_80 ?_
            refine r_goto (tgt := 85) X dX6_after_81 (by decide) ?_
            exact V.sub [1, 2, 3, 4, 5] rfl (J85 (v2_1) (v3_1) (v4_1) (1) h)
          · exact V.sub [1, 2, 3, 4, 5] rfl (J84 (v2_1) (v3_1) (v4_1) h)
      · have h := ex_some h ihe1
        refine r_iload_n X 2 dX6_after_120 rfl rfl ?_
        refine r_iload_n X 3 dX6_after_121 rfl rfl ?_
        obtain ⟨r14, h13, h⟩ := bd_some h
        refine r_cS (Wd := 0) X (fun l D sz => w_X6_mean l D sz h13) q1734 q1733 q109 q1735 hy_X6_mean rfl dX6_after_122 rfl rfl (Nat.le_of_ble_eq_true rfl) ⟨Nat.le_of_ble_eq_true rfl, Nat.le_of_ble_eq_true rfl⟩ ⟨Nat.le_of_ble_eq_true rfl, Nat.le_of_ble_eq_true rfl⟩ ?_
        cases h
        exact r_iret X hr dX6_after_125
    exact V.sub [3, 4, 2, 1, 0] rfl (L18 (0, 0, 1) h)
theorem hy_X6_learnt : yX6_learnt.cls ≠ "java/lang/invoke/MethodHandle" ∧ yX6_learnt.cls ≠ "java/lang/invoke/VarHandle" ∧ (parseMethodDescriptor yX6_learnt.desc).map (fun d => d.parameters.length) = some 4 := by decide +kernel
set_option maxHeartbeats 4000000 in
theorem w_X6_learnt (l : Launch) (D : DD) (sz : Nat) {σ : St} {a0 : Nat} {x1 : Int} {x2 : Int} {x3 : Int} {x4 : Int} {w : Int × St} (h : f_X6_learnt σ a0 x1 x2 x3 x4 = some w) : Mt l yX6_learnt cX6_learnt 8 (some FieldType.int) ({ frames := 7, cells := 0, slots := 0, locals := 116 } : Room) D sz σ [.ref a0, iv (x1), iv (x2), iv (x3), iv (x4)] (.returned (some (iv w.1))) (w.2) 0 0 := by
  refine Mt.of (by decide +kernel) (Nat.le_of_ble_eq_true rfl) ?_
  intro Γ X hr hnl hini hnoh
  have X : Cx Γ cX6_learnt "DayBoyModel" _ := X
  have hL : ∀ i, i < 8 → i < nLc Γ := fun i q => by rw [hnl]; exact q
  show V Γ σ 0 0 0 [(0, .ref (a0)), (1, iv (x1)), (2, iv (x2)), (3, iv (x3)), (4, iv (x4))] []
  unfold f_X6_learnt at h
  obtain ⟨ho0, h⟩ := cO_some h
  refine r_aload_n X 0 dX6_learnt_0 rfl rfl ?_
  refine r_iload_n X 1 dX6_learnt_1 rfl rfl ?_
  obtain ⟨r2, h1, h⟩ := bd_some h
  refine r_cV (Wd := 0) X (fun l D sz => w_X6_isHead l D sz h1) ho0.1 rfl q1662 qs79 q1660 q109 q1663 hy_X6_isHead rfl dX6_learnt_2 rfl rfl (Nat.le_of_ble_eq_true rfl) ⟨Nat.le_of_ble_eq_true rfl, Nat.le_of_ble_eq_true rfl⟩ ⟨Nat.le_of_ble_eq_true rfl, Nat.le_of_ble_eq_true rfl⟩ ?_
  refine r_if_eq (tgt := 34) X dX6_learnt_5 (by decide) h (fun c3 h => ?_) (fun c3 h => ?_)
  · refine r_iconst X dX6_learnt_34 ?_
    cases h
    exact r_iret X hr dX6_learnt_35
  · refine r_aload_n X 0 dX6_learnt_8 rfl rfl ?_
    refine r_iload_n X 2 dX6_learnt_9 rfl rfl ?_
    obtain ⟨r5, h4, h⟩ := bd_some h
    refine r_cV (Wd := 0) X (fun l D sz => w_X6_isHead l D sz h4) ho0.1 rfl q1662 qs79 q1660 q109 q1663 hy_X6_isHead rfl dX6_learnt_10 rfl rfl (Nat.le_of_ble_eq_true rfl) ⟨Nat.le_of_ble_eq_true rfl, Nat.le_of_ble_eq_true rfl⟩ ⟨Nat.le_of_ble_eq_true rfl, Nat.le_of_ble_eq_true rfl⟩ ?_
    refine r_if_eq (tgt := 34) X dX6_learnt_13 (by decide) h (fun c6 h => ?_) (fun c6 h => ?_)
    · refine r_iconst X dX6_learnt_34 ?_
      cases h
      exact r_iret X hr dX6_learnt_35
    · refine r_aload_n X 0 dX6_learnt_16 rfl rfl ?_
      refine r_iload_n X 3 dX6_learnt_17 rfl rfl ?_
      obtain ⟨r8, h7, h⟩ := bd_some h
      refine r_cV (Wd := 0) X (fun l D sz => w_X6_isSlack l D sz h7) ho0.1 rfl q1709 qs86 q1707 q109 q1710 hy_X6_isSlack rfl dX6_learnt_18 rfl rfl (Nat.le_of_ble_eq_true rfl) ⟨Nat.le_of_ble_eq_true rfl, Nat.le_of_ble_eq_true rfl⟩ ⟨Nat.le_of_ble_eq_true rfl, Nat.le_of_ble_eq_true rfl⟩ ?_
      refine r_if_eq (tgt := 34) X dX6_learnt_21 (by decide) h (fun c9 h => ?_) (fun c9 h => ?_)
      · refine r_iconst X dX6_learnt_34 ?_
        cases h
        exact r_iret X hr dX6_learnt_35
      · refine r_iload X 4 dX6_learnt_24 rfl ?_
        refine r_iconst X dX6_learnt_26 ?_
        refine r_iconst X dX6_learnt_27 ?_
        obtain ⟨r11, h10, h⟩ := bd_some h
        refine r_cS (Wd := 0) X (fun l D sz => w_X6_in l D sz h10) q1502 q1501 q109 q1503 hy_X6_in rfl dX6_learnt_28 rfl rfl (Nat.le_of_ble_eq_true rfl) ⟨Nat.le_of_ble_eq_true rfl, Nat.le_of_ble_eq_true rfl⟩ ⟨Nat.le_of_ble_eq_true rfl, Nat.le_of_ble_eq_true rfl⟩ ?_
        refine r_if_ne (tgt := 36) X dX6_learnt_31 (by decide) h (fun c12 h => ?_) (fun c12 h => ?_)
        · refine r_iconst X dX6_learnt_34 ?_
          cases h
          exact r_iret X hr dX6_learnt_35
        · refine r_sipush X dX6_learnt_36 (by decide) ?_
          refine r_istore X dX6_learnt_39 (hL 5 (by decide)) (lv' := [(5, iv (1000)), (0, .ref (a0)), (1, iv (x1)), (2, iv (x2)), (3, iv (x3)), (4, iv (x4))]) rfl ?_
          refine r_iconst X dX6_learnt_41 ?_
          refine r_istore X dX6_learnt_42 (hL 6 (by decide)) (lv' := [(6, iv (0)), (5, iv (1000)), (0, .ref (a0)), (1, iv (x1)), (2, iv (x2)), (3, iv (x3)), (4, iv (x4))]) rfl ?_
          refine r_aload_n X 2 dX6_learnt_44 rfl rfl ?_
          refine r_getI (kf := 49) X ho0.1 rfl (by decide) rfl (Or.inl q1290) dX6_learnt_45 ?_
          refine r_iconst X dX6_learnt_48 ?_
          refine r_isub X dX6_learnt_49 ?_
          refine r_istore X dX6_learnt_50 (hL 7 (by decide)) (lv' := [(7, iv (((gI (σ) (a0) 49 0) - 1))), (6, iv (0)), (5, iv (1000)), (0, .ref (a0)), (1, iv (x1)), (2, iv (x2)), (3, iv (x3)), (4, iv (x4))]) rfl ?_
          have L52 : ∀ s : Int × Int × St, lp (fun s => f_X6_learnt_b52 (a0) (x1) (x2) (x3) (x4) (0) s.1 s.2.1 s.2.2) s = some w → V Γ (s.2.2) 0 0 52 [(0, .ref (a0)), (1, iv (x1)), (2, iv (x2)), (3, iv (x3)), (4, iv (x4)), (5, iv (s.1)), (6, iv (0)), (7, iv (s.2.1))] [] := by
            refine lp_rule (P := fun s : Int × Int × St => V Γ (s.2.2) 0 0 52 [(0, .ref (a0)), (1, iv (x1)), (2, iv (x2)), (3, iv (x3)), (4, iv (x4)), (5, iv (s.1)), (6, iv (0)), (7, iv (s.2.1))] []) ?_
            intro s z1 h ihb1 ihe1
            obtain ⟨v5_1, v7_1, σ_1⟩ := s
            have h : f_X6_learnt_b52 (a0) (x1) (x2) (x3) (x4) (0) v5_1 v7_1 σ_1 = some z1 := h
            unfold f_X6_learnt_b52 at h
            show V Γ σ_1 0 0 52 [(0, .ref (a0)), (1, iv (x1)), (2, iv (x2)), (3, iv (x3)), (4, iv (x4)), (5, iv (v5_1)), (6, iv (0)), (7, iv (v7_1))] []
            refine r_iload X 7 dX6_learnt_52 rfl ?_
            refine r_if_lt (tgt := 88) X dX6_learnt_54 (by decide) h (fun c13 h => ?_) (fun c13 h => ?_)
            · have h := ex_some h ihe1
              refine r_iconst X dX6_learnt_88 ?_
              refine r_istore X dX6_learnt_89 (hL 7 (by decide)) (lv' := [(7, iv (0)), (0, .ref (a0)), (1, iv (x1)), (2, iv (x2)), (3, iv (x3)), (4, iv (x4)), (5, iv (v5_1)), (6, iv (0))]) rfl ?_
              have L91 : ∀ s : Int × Int × St, lp (fun s => f_X6_learnt_b91 (a0) (x2) (x3) (x4) (v5_1) s.1 s.2.1 s.2.2) s = some w → V Γ (s.2.2) 0 0 91 [(0, .ref (a0)), (2, iv (x2)), (3, iv (x3)), (4, iv (x4)), (5, iv (v5_1)), (6, iv (s.1)), (7, iv (s.2.1))] [] := by
                refine lp_rule (P := fun s : Int × Int × St => V Γ (s.2.2) 0 0 91 [(0, .ref (a0)), (2, iv (x2)), (3, iv (x3)), (4, iv (x4)), (5, iv (v5_1)), (6, iv (s.1)), (7, iv (s.2.1))] []) ?_
                intro s z1 h ihb1 ihe1
                obtain ⟨v6_1, v7_1, σ_1⟩ := s
                have h : f_X6_learnt_b91 (a0) (x2) (x3) (x4) (v5_1) v6_1 v7_1 σ_1 = some z1 := h
                unfold f_X6_learnt_b91 at h
                show V Γ σ_1 0 0 91 [(0, .ref (a0)), (2, iv (x2)), (3, iv (x3)), (4, iv (x4)), (5, iv (v5_1)), (6, iv (v6_1)), (7, iv (v7_1))] []
                refine r_iload X 6 dX6_learnt_91 rfl ?_
                refine r_aload_n X 0 dX6_learnt_93 rfl rfl ?_
                obtain ⟨ho14, h⟩ := cO_some h
                refine r_getI (kf := 49) X ho14.1 rfl (by decide) rfl (Or.inl q1290) dX6_learnt_94 ?_
                refine r_icmp_ge (tgt := 133) X dX6_learnt_97 (by decide) h (fun c15 h => ?_) (fun c15 h => ?_)
                · refine r_aload_n X 0 dX6_learnt_100 rfl rfl ?_
                  refine r_iload_n X 1 dX6_learnt_101 rfl rfl ?_
                  refine r_iload X 6 dX6_learnt_102 rfl ?_
                  refine r_iload_n X 2 dX6_learnt_104 rfl rfl ?_
                  obtain ⟨r17, σ18, h16, h⟩ := bd2_some h
                  refine r_cV (Wd := 0) X (fun l D sz => w_X6_isSo l D sz h16) ho14.1 rfl q1717 qs88 q1715 q109 q1718 hy_X6_isSo rfl dX6_learnt_105 rfl rfl (Nat.le_of_ble_eq_true rfl) ⟨Nat.le_of_ble_eq_true rfl, Nat.le_of_ble_eq_true rfl⟩ ⟨Nat.le_of_ble_eq_true rfl, Nat.le_of_ble_eq_true rfl⟩ ?_
                  refine r_if_eq (tgt := 116) X dX6_learnt_108 (by decide) h (fun c19 h => ?_) (fun c19 h => ?_)
                  · refine r_aload_n X 0 dX6_learnt_116 rfl rfl ?_
                    obtain ⟨ho20, h⟩ := cO_some h
                    refine r_getA (kf := 42) X ho20.1 rfl (by decide) (by decide) (Or.inl q1283) dX6_learnt_117 ?_
                    refine r_iload X 6 dX6_learnt_120 rfl ?_
                    refine r_iald X ho20.1 (ho20.2 42 (by decide)) rfl rfl rfl (by decide) dX6_learnt_122 h (fun h => ?_)
                    refine r_iconst X dX6_learnt_123 ?_
                    refine r_iadd X dX6_learnt_124 ?_
                    refine r_istore X dX6_learnt_125 (hL 6 (by decide)) (lv' := [(6, iv (((gI (σ18) (a0) 42 (v7_1)) + 1))), (0, .ref (a0)), (2, iv (x2)), (3, iv (x3)), (4, iv (x4)), (5, iv (v5_1)), (7, iv (v7_1))]) rfl ?_
                    refine r_iinc X 6 dX6_learnt_127 rfl (hL 7 (by decide)) (lv' := [(7, iv ((v7_1 + 1))), (6, iv (((gI (σ18) (a0) 42 (v7_1)) + 1))), (0, .ref (a0)), (2, iv (x2)), (3, iv (x3)), (4, iv (x4)), (5, iv (v5_1))]) rfl ?_
                    refine r_goto (tgt := 91) X dX6_learnt_130 (by decide) ?_
                    exact V.sub [2, 3, 4, 5, 6, 1, 0] rfl (ihb1 _ (Option.some.inj h).symm)
                  · refine r_iload X 5 dX6_learnt_111 rfl ?_
                    refine r_goto (tgt := 125) X dX6_learnt_113 (by decide) ?_
                    refine r_istore X dX6_learnt_125 (hL 6 (by decide)) (lv' := [(6, iv (v6_1)), (0, .ref (a0)), (2, iv (x2)), (3, iv (x3)), (4, iv (x4)), (5, iv (v5_1)), (7, iv (v7_1))]) rfl ?_
                    refine r_iinc X 6 dX6_learnt_127 rfl (hL 7 (by decide)) (lv' := [(7, iv ((v7_1 + 1))), (6, iv (v6_1)), (0, .ref (a0)), (2, iv (x2)), (3, iv (x3)), (4, iv (x4)), (5, iv (v5_1))]) rfl ?_
                    refine r_goto (tgt := 91) X dX6_learnt_130 (by decide) ?_
                    exact V.sub [2, 3, 4, 5, 6, 1, 0] rfl (ihb1 _ (Option.some.inj h).symm)
                · have h := ex_some h ihe1
                  refine r_iload X 5 dX6_learnt_133 rfl ?_
                  refine r_iload X 4 dX6_learnt_135 rfl ?_
                  refine r_icmp_le (tgt := 144) X dX6_learnt_137 (by decide) h (fun c21 h => ?_) (fun c21 h => ?_)
                  · refine r_iconst X dX6_learnt_140 ?_
                    refine r_goto (tgt := 156) X dX6_learnt_141 (by decide) ?_
                    cases h
                    exact r_iret X hr dX6_learnt_156
                  · refine r_iload X 3 dX6_learnt_144 rfl ?_
                    refine r_if_ne (tgt := 154) X dX6_learnt_146 (by decide) h (fun c22 h => ?_) (fun c22 h => ?_)
                    · refine r_iload X 5 dX6_learnt_149 rfl ?_
                      refine r_goto (tgt := 156) X dX6_learnt_151 (by decide) ?_
                      cases h
                      exact r_iret X hr dX6_learnt_156
                    · refine r_iload X 4 dX6_learnt_154 rfl ?_
                      cases h
                      exact r_iret X hr dX6_learnt_156
              exact V.sub [1, 3, 4, 5, 6, 7, 0] rfl (L91 (0, 0, σ_1) h)
            · refine r_aload_n X 0 dX6_learnt_57 rfl rfl ?_
              refine r_iload_n X 1 dX6_learnt_58 rfl rfl ?_
              refine r_iload X 7 dX6_learnt_59 rfl ?_
              refine r_iload_n X 3 dX6_learnt_61 rfl rfl ?_
              obtain ⟨ho24, h⟩ := cO_some h
              obtain ⟨r25, σ26, h23, h⟩ := bd2_some h
              refine r_cV (Wd := 0) X (fun l D sz => w_X6_isSo l D sz h23) ho24.1 rfl q1717 qs88 q1715 q109 q1718 hy_X6_isSo rfl dX6_learnt_62 rfl rfl (Nat.le_of_ble_eq_true rfl) ⟨Nat.le_of_ble_eq_true rfl, Nat.le_of_ble_eq_true rfl⟩ ⟨Nat.le_of_ble_eq_true rfl, Nat.le_of_ble_eq_true rfl⟩ ?_
              refine r_if_eq (tgt := 73) X dX6_learnt_65 (by decide) h (fun c27 h => ?_) (fun c27 h => ?_)
              · refine r_aload_n X 0 dX6_learnt_73 rfl rfl ?_
                obtain ⟨ho28, h⟩ := cO_some h
                refine r_getA (kf := 42) X ho28.1 rfl (by decide) (by decide) (Or.inl q1283) dX6_learnt_74 ?_
                refine r_iload X 7 dX6_learnt_77 rfl ?_
                refine r_iald X ho28.1 (ho28.2 42 (by decide)) rfl rfl rfl (by decide) dX6_learnt_79 h (fun h => ?_)
                refine r_istore X dX6_learnt_80 (hL 5 (by decide)) (lv' := [(5, iv ((gI (σ26) (a0) 42 (v7_1)))), (0, .ref (a0)), (1, iv (x1)), (2, iv (x2)), (3, iv (x3)), (4, iv (x4)), (6, iv (0)), (7, iv (v7_1))]) rfl ?_
                refine r_iinc X 7 dX6_learnt_82 rfl (hL 7 (by decide)) (lv' := [(7, iv ((v7_1 + (-1)))), (5, iv ((gI (σ26) (a0) 42 (v7_1)))), (0, .ref (a0)), (1, iv (x1)), (2, iv (x2)), (3, iv (x3)), (4, iv (x4)), (6, iv (0))]) rfl ?_
                refine r_goto (tgt := 52) X dX6_learnt_85 (by decide) ?_
                exact V.sub [2, 3, 4, 5, 6, 1, 7, 0] rfl (ihb1 _ (Option.some.inj h).symm)
              · refine r_iload X 5 dX6_learnt_68 rfl ?_
                refine r_goto (tgt := 80) X dX6_learnt_70 (by decide) ?_
                refine r_istore X dX6_learnt_80 (hL 5 (by decide)) (lv' := [(5, iv (v5_1)), (0, .ref (a0)), (1, iv (x1)), (2, iv (x2)), (3, iv (x3)), (4, iv (x4)), (6, iv (0)), (7, iv (v7_1))]) rfl ?_
                refine r_iinc X 7 dX6_learnt_82 rfl (hL 7 (by decide)) (lv' := [(7, iv ((v7_1 + (-1)))), (5, iv (v5_1)), (0, .ref (a0)), (1, iv (x1)), (2, iv (x2)), (3, iv (x3)), (4, iv (x4)), (6, iv (0))]) rfl ?_
                refine r_goto (tgt := 52) X dX6_learnt_85 (by decide) ?_
                exact V.sub [2, 3, 4, 5, 6, 1, 7, 0] rfl (ihb1 _ (Option.some.inj h).symm)
          exact V.sub [3, 4, 5, 6, 7, 2, 1, 0] rfl (L52 (1000, ((gI (σ) (a0) 49 0) - 1), σ) h)
theorem hy_X6_weigh : yX6_weigh.cls ≠ "java/lang/invoke/MethodHandle" ∧ yX6_weigh.cls ≠ "java/lang/invoke/VarHandle" ∧ (parseMethodDescriptor yX6_weigh.desc).map (fun d => d.parameters.length) = some 2 := by decide +kernel
set_option maxHeartbeats 4000000 in
theorem w_X6_weigh (l : Launch) (D : DD) (sz : Nat) {σ : St} {a0 : Nat} {x1 : Int} {x2 : Int} {w : Int × St} (h : f_X6_weigh σ a0 x1 x2 = some w) : Mt l yX6_weigh cX6_weigh 3 (some FieldType.boolean) ({ frames := 2, cells := 0, slots := 0, locals := 27 } : Room) D sz σ [.ref a0, iv (x1), iv (x2)] (.returned (some (iv w.1))) (w.2) 0 0 := by
  refine Mt.of (by decide +kernel) (Nat.le_of_ble_eq_true rfl) ?_
  intro Γ X hr hnl hini hnoh
  have X : Cx Γ cX6_weigh "DayBoyModel" _ := X
  have hL : ∀ i, i < 3 → i < nLc Γ := fun i q => by rw [hnl]; exact q
  show V Γ σ 0 0 0 [(0, .ref (a0)), (1, iv (x1)), (2, iv (x2))] []
  unfold f_X6_weigh at h
  obtain ⟨ho0, h⟩ := cO_some h
  refine r_aload_n X 0 dX6_weigh_0 rfl rfl ?_
  refine r_iload_n X 1 dX6_weigh_1 rfl rfl ?_
  obtain ⟨r2, h1, h⟩ := bd_some h
  refine r_cV (Wd := 0) X (fun l D sz => w_X6_isHead l D sz h1) ho0.1 rfl q1662 qs79 q1660 q109 q1663 hy_X6_isHead rfl dX6_weigh_2 rfl rfl (Nat.le_of_ble_eq_true rfl) ⟨Nat.le_of_ble_eq_true rfl, Nat.le_of_ble_eq_true rfl⟩ ⟨Nat.le_of_ble_eq_true rfl, Nat.le_of_ble_eq_true rfl⟩ ?_
  refine r_if_eq (tgt := 18) X dX6_weigh_5 (by decide) h (fun c3 h => ?_) (fun c3 h => ?_)
  · refine r_iconst X dX6_weigh_18 ?_
    cases h
    exact r_zret X hr (by decide) dX6_weigh_19
  · refine r_iload_n X 2 dX6_weigh_8 rfl rfl ?_
    refine r_iconst X dX6_weigh_9 ?_
    refine r_bipush X dX6_weigh_10 (by decide) ?_
    obtain ⟨r6, h5, h⟩ := bd_some h
    refine r_cS (Wd := 0) X (fun l D sz => w_X6_in l D sz h5) q1502 q1501 q109 q1503 hy_X6_in rfl dX6_weigh_12 rfl rfl (Nat.le_of_ble_eq_true rfl) ⟨Nat.le_of_ble_eq_true rfl, Nat.le_of_ble_eq_true rfl⟩ ⟨Nat.le_of_ble_eq_true rfl, Nat.le_of_ble_eq_true rfl⟩ ?_
    refine r_if_ne (tgt := 20) X dX6_weigh_15 (by decide) h (fun c7 h => ?_) (fun c7 h => ?_)
    · refine r_iconst X dX6_weigh_18 ?_
      cases h
      exact r_zret X hr (by decide) dX6_weigh_19
    · refine r_aload_n X 0 dX6_weigh_20 rfl rfl ?_
      refine r_getA (kf := 27) X ho0.1 rfl (by decide) (by decide) (Or.inl q1268) dX6_weigh_21 ?_
      refine r_iload_n X 1 dX6_weigh_24 rfl rfl ?_
      refine r_iload_n X 2 dX6_weigh_25 rfl rfl ?_
      refine r_iast X ho0.1 (ho0.2 27 (by decide)) rfl rfl rfl (by decide) dX6_weigh_26 h (fun h => ?_)
      refine r_let h (fun σ9 eσ9 h => ?_)
      refine r_iconst X dX6_weigh_27 ?_
      cases h
      exact r_zret X hr (by decide) dX6_weigh_28
theorem hy_X6_odds : yX6_odds.cls ≠ "java/lang/invoke/MethodHandle" ∧ yX6_odds.cls ≠ "java/lang/invoke/VarHandle" ∧ (parseMethodDescriptor yX6_odds.desc).map (fun d => d.parameters.length) = some 2 := by decide +kernel
set_option maxHeartbeats 4000000 in
theorem w_X6_odds (l : Launch) (D : DD) (sz : Nat) {σ : St} {a0 : Nat} {x1 : Int} {x2 : Int} {w : Int × St} (h : f_X6_odds σ a0 x1 x2 = some w) : Mt l yX6_odds cX6_odds 5 (some FieldType.int) ({ frames := 8, cells := 0, slots := 0, locals := 134 } : Room) D sz σ [.ref a0, iv (x1), iv (x2)] (.returned (some (iv w.1))) (w.2) 0 0 := by
  refine Mt.of (by decide +kernel) (Nat.le_of_ble_eq_true rfl) ?_
  intro Γ X hr hnl hini hnoh
  have X : Cx Γ cX6_odds "DayBoyModel" _ := X
  have hL : ∀ i, i < 5 → i < nLc Γ := fun i q => by rw [hnl]; exact q
  show V Γ σ 0 0 0 [(0, .ref (a0)), (1, iv (x1)), (2, iv (x2))] []
  unfold f_X6_odds at h
  obtain ⟨ho0, h⟩ := cO_some h
  have J13 : ∀ (σ_j13 : St), f_X6_odds_j13 (a0) (x1) (x2) σ_j13 = some w → V Γ σ_j13 0 0 13 [(0, .ref (a0)), (1, iv (x1)), (2, iv (x2))] [] := by
    intro σ_j13 h
    unfold f_X6_odds_j13 at h
    refine r_aload_n X 0 dX6_odds_13 rfl rfl ?_
    refine r_iload_n X 2 dX6_odds_14 rfl rfl ?_
    obtain ⟨ho2, h⟩ := cO_some h
    obtain ⟨r3, h1, h⟩ := bd_some h
    refine r_cV (Wd := 0) X (fun l D sz => w_X6_isSlack l D sz h1) ho2.1 rfl q1709 qs86 q1707 q109 q1710 hy_X6_isSlack rfl dX6_odds_15 rfl rfl (Nat.le_of_ble_eq_true rfl) ⟨Nat.le_of_ble_eq_true rfl, Nat.le_of_ble_eq_true rfl⟩ ⟨Nat.le_of_ble_eq_true rfl, Nat.le_of_ble_eq_true rfl⟩ ?_
    refine r_if_ne (tgt := 23) X dX6_odds_18 (by decide) h (fun c4 h => ?_) (fun c4 h => ?_)
    · refine r_iconst X dX6_odds_21 ?_
      cases h
      exact r_iret X hr dX6_odds_22
    · refine r_iconst X dX6_odds_23 ?_
      refine r_istore_n X dX6_odds_24 rfl (hL 3 (by decide)) (lv' := [(3, iv (0)), (0, .ref (a0)), (1, iv (x1)), (2, iv (x2))]) rfl ?_
      refine r_iconst X dX6_odds_25 ?_
      refine r_istore X dX6_odds_26 (hL 4 (by decide)) (lv' := [(4, iv (0)), (3, iv (0)), (0, .ref (a0)), (1, iv (x1)), (2, iv (x2))]) rfl ?_
      have L28 : ∀ s : Int × Int × St, lp (fun s => f_X6_odds_b28 (a0) (x1) (x2) s.1 s.2.1 s.2.2) s = some w → V Γ (s.2.2) 0 0 28 [(0, .ref (a0)), (1, iv (x1)), (2, iv (x2)), (3, iv (s.1)), (4, iv (s.2.1))] [] := by
        refine lp_rule (P := fun s : Int × Int × St => V Γ (s.2.2) 0 0 28 [(0, .ref (a0)), (1, iv (x1)), (2, iv (x2)), (3, iv (s.1)), (4, iv (s.2.1))] []) ?_
        intro s z1 h ihb1 ihe1
        obtain ⟨v3_1, v4_1, σ_1⟩ := s
        have h : f_X6_odds_b28 (a0) (x1) (x2) v3_1 v4_1 σ_1 = some z1 := h
        unfold f_X6_odds_b28 at h
        show V Γ σ_1 0 0 28 [(0, .ref (a0)), (1, iv (x1)), (2, iv (x2)), (3, iv (v3_1)), (4, iv (v4_1))] []
        have J49 : ∀ (v4_j49 : Int) (t0_j49 : Int) (σ_j49 : St), f_X6_odds_j49 (a0) (x1) (x2) v4_j49 t0_j49 σ_j49 = some z1 → V Γ σ_j49 0 0 49 [(0, .ref (a0)), (1, iv (x1)), (2, iv (x2)), (4, iv (v4_j49))] [iv (t0_j49)] := by
          intro v4_j49 t0_j49 σ_j49 h
          unfold f_X6_odds_j49 at h
          refine r_aload_n X 0 dX6_odds_49 rfl rfl ?_
          refine r_iload X 3 dX6_odds_50 rfl ?_
          refine r_iload_n X 2 dX6_odds_52 rfl rfl ?_
          obtain ⟨ho6, h⟩ := cO_some h
          obtain ⟨r7, σ8, h5, h⟩ := bd2_some h
          refine r_cV (Wd := 1) X (fun l D sz => w_X6_soMany l D sz h5) ho6.1 rfl q1713 qs87 q1711 q109 q1714 hy_X6_soMany rfl dX6_odds_53 rfl rfl (Nat.le_of_ble_eq_true rfl) ⟨Nat.le_of_ble_eq_true rfl, Nat.le_of_ble_eq_true rfl⟩ ⟨Nat.le_of_ble_eq_true rfl, Nat.le_of_ble_eq_true rfl⟩ ?_
          refine r_aload_n X 0 dX6_odds_56 rfl rfl ?_
          obtain ⟨ho9, h⟩ := cO_some h
          refine r_getI (kf := 49) X ho9.1 rfl (by decide) rfl (Or.inl q1290) dX6_odds_57 ?_
          refine r_icmp_ne (tgt := 73) X dX6_odds_60 (by decide) h (fun c10 h => ?_) (fun c10 h => ?_)
          · refine r_aload_n X 0 dX6_odds_63 rfl rfl ?_
            refine r_getA (kf := 27) X ho9.1 rfl (by decide) (by decide) (Or.inl q1268) dX6_odds_64 ?_
            refine r_iload X 3 dX6_odds_67 rfl ?_
            refine r_iald X ho9.1 (ho9.2 27 (by decide)) rfl rfl rfl (by decide) dX6_odds_69 h (fun h => ?_)
            refine r_goto (tgt := 74) X dX6_odds_70 (by decide) ?_
            refine r_iadd X dX6_odds_74 ?_
            refine r_istore_n X dX6_odds_75 rfl (hL 3 (by decide)) (lv' := [(3, iv ((t0_j49 + (gI (σ8) (a0) 27 (v4_j49))))), (0, .ref (a0)), (1, iv (x1)), (2, iv (x2)), (4, iv (v4_j49))]) rfl ?_
            refine r_iinc X 4 dX6_odds_76 rfl (hL 4 (by decide)) (lv' := [(4, iv ((v4_j49 + 1))), (3, iv ((t0_j49 + (gI (σ8) (a0) 27 (v4_j49))))), (0, .ref (a0)), (1, iv (x1)), (2, iv (x2))]) rfl ?_
            refine r_goto (tgt := 28) X dX6_odds_79 (by decide) ?_
            exact V.sub [2, 3, 4, 1, 0] rfl (ihb1 _ (Option.some.inj h).symm)
          · refine r_iconst X dX6_odds_73 ?_
            refine r_iadd X dX6_odds_74 ?_
            refine r_istore_n X dX6_odds_75 rfl (hL 3 (by decide)) (lv' := [(3, iv ((t0_j49 + 0))), (0, .ref (a0)), (1, iv (x1)), (2, iv (x2)), (4, iv (v4_j49))]) rfl ?_
            refine r_iinc X 4 dX6_odds_76 rfl (hL 4 (by decide)) (lv' := [(4, iv ((v4_j49 + 1))), (3, iv ((t0_j49 + 0))), (0, .ref (a0)), (1, iv (x1)), (2, iv (x2))]) rfl ?_
            refine r_goto (tgt := 28) X dX6_odds_79 (by decide) ?_
            exact V.sub [2, 3, 4, 1, 0] rfl (ihb1 _ (Option.some.inj h).symm)
        refine r_iload X 4 dX6_odds_28 rfl ?_
        refine r_aload_n X 0 dX6_odds_30 rfl rfl ?_
        obtain ⟨ho11, h⟩ := cO_some h
        refine r_getI (kf := 28) X ho11.1 rfl (by decide) rfl (Or.inl q1269) dX6_odds_31 ?_
        refine r_icmp_ge (tgt := 82) X dX6_odds_34 (by decide) h (fun c12 h => ?_) (fun c12 h => ?_)
        · refine r_iload_n X 3 dX6_odds_37 rfl rfl ?_
          refine r_iload_n X 1 dX6_odds_38 rfl rfl ?_
          refine r_iconst X dX6_odds_39 ?_
          refine r_icmp_eq (tgt := 49) X dX6_odds_40 (by decide) h (fun c13 h => ?_) (fun c13 h => ?_)
          · exact V.sub [0, 1, 2, 4] rfl (J49 (v4_1) (v3_1) (σ_1) h)
          · refine r_iload_n X 1 dX6_odds_43 rfl rfl ?_
            refine r_iload X 4 dX6_odds_44 rfl ?_
            refine r_icmp_ne (tgt := 73) X dX6_odds_46 (by decide) h (fun c14 h => ?_) (fun c14 h => ?_)
            · exact V.sub [0, 1, 2, 4] rfl (J49 (v4_1) (v3_1) (σ_1) h)
            · refine r_iconst X dX6_odds_73 ?_
              refine r_iadd X dX6_odds_74 ?_
              refine r_istore_n X dX6_odds_75 rfl (hL 3 (by decide)) (lv' := [(3, iv ((v3_1 + 0))), (0, .ref (a0)), (1, iv (x1)), (2, iv (x2)), (4, iv (v4_1))]) rfl ?_
              refine r_iinc X 4 dX6_odds_76 rfl (hL 4 (by decide)) (lv' := [(4, iv ((v4_1 + 1))), (3, iv ((v3_1 + 0))), (0, .ref (a0)), (1, iv (x1)), (2, iv (x2))]) rfl ?_
              refine r_goto (tgt := 28) X dX6_odds_79 (by decide) ?_
              exact V.sub [2, 3, 4, 1, 0] rfl (ihb1 _ (Option.some.inj h).symm)
        · have h := ex_some h ihe1
          refine r_iload_n X 3 dX6_odds_82 rfl rfl ?_
          cases h
          exact r_iret X hr dX6_odds_83
      exact V.sub [2, 3, 4, 1, 0] rfl (L28 (0, 0, σ_j13) h)
  refine r_iload_n X 1 dX6_odds_0 rfl rfl ?_
  refine r_iconst X dX6_odds_1 ?_
  refine r_icmp_eq (tgt := 13) X dX6_odds_2 (by decide) h (fun c15 h => ?_) (fun c15 h => ?_)
  · exact V.sub [0, 1, 2] rfl (J13 (σ) h)
  · refine r_aload_n X 0 dX6_odds_5 rfl rfl ?_
    refine r_iload_n X 1 dX6_odds_6 rfl rfl ?_
    obtain ⟨r17, h16, h⟩ := bd_some h
    refine r_cV (Wd := 0) X (fun l D sz => w_X6_isHead l D sz h16) ho0.1 rfl q1662 qs79 q1660 q109 q1663 hy_X6_isHead rfl dX6_odds_7 rfl rfl (Nat.le_of_ble_eq_true rfl) ⟨Nat.le_of_ble_eq_true rfl, Nat.le_of_ble_eq_true rfl⟩ ⟨Nat.le_of_ble_eq_true rfl, Nat.le_of_ble_eq_true rfl⟩ ?_
    refine r_if_eq (tgt := 21) X dX6_odds_10 (by decide) h (fun c18 h => ?_) (fun c18 h => ?_)
    · refine r_iconst X dX6_odds_21 ?_
      cases h
      exact r_iret X hr dX6_odds_22
    · exact V.sub [0, 1, 2] rfl (J13 (σ) h)
theorem hy_X6_plan : yX6_plan.cls ≠ "java/lang/invoke/MethodHandle" ∧ yX6_plan.cls ≠ "java/lang/invoke/VarHandle" ∧ (parseMethodDescriptor yX6_plan.desc).map (fun d => d.parameters.length) = some 4 := by decide +kernel
set_option maxHeartbeats 4000000 in
theorem w_X6_plan (l : Launch) (D : DD) (sz : Nat) {σ : St} {a0 : Nat} {x1 : Int} {x2 : Int} {x3 : Int} {x4 : Int} {w : Int × St} (h : f_X6_plan σ a0 x1 x2 x3 x4 = some w) : Mt l yX6_plan cX6_plan 5 (some FieldType.int) ({ frames := 4, cells := 0, slots := 0, locals := 65 } : Room) D sz σ [.ref a0, iv (x1), iv (x2), iv (x3), iv (x4)] (.returned (some (iv w.1))) (w.2) 0 0 := by
  refine Mt.of (by decide +kernel) (Nat.le_of_ble_eq_true rfl) ?_
  intro Γ X hr hnl hini hnoh
  have X : Cx Γ cX6_plan "DayBoyModel" _ := X
  have hL : ∀ i, i < 5 → i < nLc Γ := fun i q => by rw [hnl]; exact q
  show V Γ σ 0 0 0 [(0, .ref (a0)), (1, iv (x1)), (2, iv (x2)), (3, iv (x3)), (4, iv (x4))] []
  unfold f_X6_plan at h
  obtain ⟨ho0, h⟩ := cO_some h
  refine r_aload_n X 0 dX6_plan_0 rfl rfl ?_
  refine r_iload_n X 1 dX6_plan_1 rfl rfl ?_
  refine r_iload_n X 2 dX6_plan_2 rfl rfl ?_
  refine r_iload_n X 3 dX6_plan_3 rfl rfl ?_
  refine r_iload X 4 dX6_plan_4 rfl ?_
  obtain ⟨r2, h1, h⟩ := bd_some h
  refine r_cV (Wd := 0) X (fun l D sz => w_X6_isDate l D sz h1) ho0.1 rfl q1614 qs73 q1612 q109 q1615 hy_X6_isDate rfl dX6_plan_6 rfl rfl (Nat.le_of_ble_eq_true rfl) ⟨Nat.le_of_ble_eq_true rfl, Nat.le_of_ble_eq_true rfl⟩ ⟨Nat.le_of_ble_eq_true rfl, Nat.le_of_ble_eq_true rfl⟩ ?_
  refine r_if_eq (tgt := 21) X dX6_plan_9 (by decide) h (fun c3 h => ?_) (fun c3 h => ?_)
  · refine r_iconst X dX6_plan_21 ?_
    cases h
    exact r_iret X hr dX6_plan_22
  · refine r_aload_n X 0 dX6_plan_12 rfl rfl ?_
    refine r_getI (kf := 54) X ho0.1 rfl (by decide) rfl (Or.inl q1295) dX6_plan_13 ?_
    refine r_bipush X dX6_plan_16 (by decide) ?_
    refine r_icmp_ne (tgt := 23) X dX6_plan_18 (by decide) h (fun c4 h => ?_) (fun c4 h => ?_)
    · refine r_iconst X dX6_plan_21 ?_
      cases h
      exact r_iret X hr dX6_plan_22
    · refine r_aload_n X 0 dX6_plan_23 rfl rfl ?_
      refine r_getA (kf := 50) X ho0.1 rfl (by decide) (by decide) (Or.inl q1291) dX6_plan_24 ?_
      refine r_aload_n X 0 dX6_plan_27 rfl rfl ?_
      refine r_getI (kf := 54) X ho0.1 rfl (by decide) rfl (Or.inl q1295) dX6_plan_28 ?_
      refine r_iload_n X 1 dX6_plan_31 rfl rfl ?_
      refine r_iast X ho0.1 (ho0.2 50 (by decide)) rfl rfl rfl (by decide) dX6_plan_32 h (fun h => ?_)
      refine r_let h (fun σ5 eσ5 h => ?_)
      refine r_aload_n X 0 dX6_plan_33 rfl rfl ?_
      have hk6 : oc σ5 (a0) 5 := by rw [eσ5]; exact ho0
      refine r_getA (kf := 51) X hk6.1 rfl (by decide) (by decide) (Or.inl q1292) dX6_plan_34 ?_
      refine r_aload_n X 0 dX6_plan_37 rfl rfl ?_
      refine r_getI (kf := 54) X hk6.1 rfl (by decide) rfl (Or.inl q1295) dX6_plan_38 ?_
      refine r_iload_n X 2 dX6_plan_41 rfl rfl ?_
      refine r_iast X hk6.1 (hk6.2 51 (by decide)) rfl rfl rfl (by decide) dX6_plan_42 h (fun h => ?_)
      refine r_let h (fun σ7 eσ7 h => ?_)
      refine r_aload_n X 0 dX6_plan_43 rfl rfl ?_
      have hk8 : oc σ7 (a0) 5 := by rw [eσ7]; exact hk6
      refine r_getA (kf := 52) X hk8.1 rfl (by decide) (by decide) (Or.inl q1293) dX6_plan_44 ?_
      refine r_aload_n X 0 dX6_plan_47 rfl rfl ?_
      refine r_getI (kf := 54) X hk8.1 rfl (by decide) rfl (Or.inl q1295) dX6_plan_48 ?_
      refine r_iload_n X 3 dX6_plan_51 rfl rfl ?_
      refine r_iast X hk8.1 (hk8.2 52 (by decide)) rfl rfl rfl (by decide) dX6_plan_52 h (fun h => ?_)
      refine r_let h (fun σ9 eσ9 h => ?_)
      refine r_aload_n X 0 dX6_plan_53 rfl rfl ?_
      have hk10 : oc σ9 (a0) 5 := by rw [eσ9]; exact hk8
      refine r_getA (kf := 53) X hk10.1 rfl (by decide) (by decide) (Or.inl q1294) dX6_plan_54 ?_
      refine r_aload_n X 0 dX6_plan_57 rfl rfl ?_
      refine r_getI (kf := 54) X hk10.1 rfl (by decide) rfl (Or.inl q1295) dX6_plan_58 ?_
      refine r_iload X 4 dX6_plan_61 rfl ?_
      refine r_iast X hk10.1 (hk10.2 53 (by decide)) rfl rfl rfl (by decide) dX6_plan_63 h (fun h => ?_)
      refine r_let h (fun σ11 eσ11 h => ?_)
      refine r_aload_n X 0 dX6_plan_64 rfl rfl ?_
      refine r_dup X dX6_plan_65 rfl ?_
      have hk12 : oc σ11 (a0) 5 := by rw [eσ11]; exact hk10
      refine r_getI (kf := 54) X hk12.1 rfl (by decide) rfl (Or.inl q1295) dX6_plan_66 ?_
      refine r_iconst X dX6_plan_69 ?_
      refine r_iadd X dX6_plan_70 ?_
      refine r_putI (kf := 54) X hk12.1 rfl (by decide) rfl rfl (Or.inl q1295) dX6_plan_71 rfl ?_
      refine r_let h (fun σ13 eσ13 h => ?_)
      refine r_aload_n X 0 dX6_plan_74 rfl rfl ?_
      have hk14 : oc σ13 (a0) 5 := by rw [eσ13]; exact hk12
      refine r_getI (kf := 54) X hk14.1 rfl (by decide) rfl (Or.inl q1295) dX6_plan_75 ?_
      refine r_iconst X dX6_plan_78 ?_
      refine r_isub X dX6_plan_79 ?_
      cases h
      exact r_iret X hr dX6_plan_80
theorem hy_X6_areHeads : yX6_areHeads.cls ≠ "java/lang/invoke/MethodHandle" ∧ yX6_areHeads.cls ≠ "java/lang/invoke/VarHandle" ∧ (parseMethodDescriptor yX6_areHeads.desc).map (fun d => d.parameters.length) = some 1 := by decide +kernel
set_option maxHeartbeats 4000000 in
theorem w_X6_areHeads (l : Launch) (D : DD) (sz : Nat) {σ : St} {a0 : Nat} {x1 : Int} {w : Int} (h : f_X6_areHeads σ a0 x1 = some w) : Mt l yX6_areHeads cX6_areHeads 2 (some FieldType.boolean) ({ frames := 0, cells := 0, slots := 0, locals := 0 } : Room) D sz σ [.ref a0, iv (x1)] (.returned (some (iv w))) (σ) 0 0 := by
  refine Mt.of (by decide +kernel) (Nat.le_of_ble_eq_true rfl) ?_
  intro Γ X hr hnl hini hnoh
  have X : Cx Γ cX6_areHeads "DayBoyModel" _ := X
  have hL : ∀ i, i < 2 → i < nLc Γ := fun i q => by rw [hnl]; exact q
  show V Γ σ 0 0 0 [(0, .ref (a0)), (1, iv (x1))] []
  unfold f_X6_areHeads at h
  obtain ⟨ho0, h⟩ := cO_some h
  refine r_iload_n X 1 dX6_areHeads_0 rfl rfl ?_
  refine r_if_lt (tgt := 17) X dX6_areHeads_1 (by decide) h (fun c1 h => ?_) (fun c1 h => ?_)
  · refine r_iconst X dX6_areHeads_17 ?_
    cases h
    exact r_zret X hr (by decide) dX6_areHeads_18
  · refine r_iload_n X 1 dX6_areHeads_4 rfl rfl ?_
    refine r_aload_n X 0 dX6_areHeads_5 rfl rfl ?_
    refine r_getI (kf := 28) X ho0.1 rfl (by decide) rfl (Or.inl q1269) dX6_areHeads_6 ?_
    refine r_ishr X dX6_areHeads_9 ?_
    refine r_if_ne (tgt := 17) X dX6_areHeads_10 (by decide) h (fun c3 h => ?_) (fun c3 h => ?_)
    · refine r_iconst X dX6_areHeads_13 ?_
      refine r_goto (tgt := 18) X dX6_areHeads_14 (by decide) ?_
      cases h
      exact r_zret X hr (by decide) dX6_areHeads_18
    · refine r_iconst X dX6_areHeads_17 ?_
      cases h
      exact r_zret X hr (by decide) dX6_areHeads_18
theorem hy_X6_areApart : yX6_areApart.cls ≠ "java/lang/invoke/MethodHandle" ∧ yX6_areApart.cls ≠ "java/lang/invoke/VarHandle" ∧ (parseMethodDescriptor yX6_areApart.desc).map (fun d => d.parameters.length) = some 6 := by decide +kernel
set_option maxHeartbeats 4000000 in
theorem w_X6_areApart (l : Launch) (D : DD) (sz : Nat) {σ : St} {a0 : Nat} {x1 : Int} {x2 : Int} {x3 : Int} {x4 : Int} {x5 : Int} {x6 : Int} {w : Int × St} (h : f_X6_areApart σ a0 x1 x2 x3 x4 x5 x6 = some w) : Mt l yX6_areApart cX6_areApart 11 (some FieldType.boolean) ({ frames := 6, cells := 0, slots := 0, locals := 101 } : Room) D sz σ [.ref a0, iv (x1), iv (x2), iv (x3), iv (x4), iv (x5), iv (x6)] (.returned (some (iv w.1))) (w.2) 0 0 := by
  refine Mt.of (by decide +kernel) (Nat.le_of_ble_eq_true rfl) ?_
  intro Γ X hr hnl hini hnoh
  have X : Cx Γ cX6_areApart "DayBoyModel" _ := X
  have hL : ∀ i, i < 11 → i < nLc Γ := fun i q => by rw [hnl]; exact q
  show V Γ σ 0 0 0 [(0, .ref (a0)), (1, iv (x1)), (2, iv (x2)), (3, iv (x3)), (4, iv (x4)), (5, iv (x5)), (6, iv (x6))] []
  unfold f_X6_areApart at h
  obtain ⟨ho0, h⟩ := cO_some h
  refine r_aload_n X 0 dX6_areApart_0 rfl rfl ?_
  refine r_iload_n X 1 dX6_areApart_1 rfl rfl ?_
  refine r_iload_n X 3 dX6_areApart_2 rfl rfl ?_
  refine r_iload X 4 dX6_areApart_3 rfl ?_
  refine r_iload X 5 dX6_areApart_5 rfl ?_
  refine r_iload X 6 dX6_areApart_7 rfl ?_
  obtain ⟨r2, σ3, h1, h⟩ := bd2_some h
  refine r_cV (Wd := 0) X (fun l D sz => w_X6_answer l D sz h1) ho0.1 rfl q1682 qs83 q1680 q109 q1683 hy_X6_answer rfl dX6_areApart_9 rfl rfl (Nat.le_of_ble_eq_true rfl) ⟨Nat.le_of_ble_eq_true rfl, Nat.le_of_ble_eq_true rfl⟩ ⟨Nat.le_of_ble_eq_true rfl, Nat.le_of_ble_eq_true rfl⟩ ?_
  refine r_istore X dX6_areApart_12 (hL 7 (by decide)) (lv' := [(7, iv (r2)), (0, .ref (a0)), (1, iv (x1)), (2, iv (x2)), (3, iv (x3)), (4, iv (x4)), (5, iv (x5)), (6, iv (x6))]) rfl ?_
  refine r_aload_n X 1 dX6_areApart_14 rfl rfl ?_
  obtain ⟨ho4, h⟩ := cO_some h
  refine r_getI (kf := 40) X ho4.1 rfl (by decide) rfl (Or.inl q1281) dX6_areApart_15 ?_
  refine r_istore X dX6_areApart_18 (hL 8 (by decide)) (lv' := [(8, iv ((gI (σ3) (a0) 40 0))), (7, iv (r2)), (0, .ref (a0)), (1, iv (x1)), (2, iv (x2)), (3, iv (x3)), (4, iv (x4)), (5, iv (x5)), (6, iv (x6))]) rfl ?_
  refine r_aload_n X 2 dX6_areApart_20 rfl rfl ?_
  refine r_getI (kf := 41) X ho4.1 rfl (by decide) rfl (Or.inl q1282) dX6_areApart_21 ?_
  refine r_istore X dX6_areApart_24 (hL 9 (by decide)) (lv' := [(9, iv ((gI (σ3) (a0) 41 0))), (8, iv ((gI (σ3) (a0) 40 0))), (7, iv (r2)), (0, .ref (a0)), (1, iv (x1)), (2, iv (x2)), (3, iv (x3)), (4, iv (x4)), (5, iv (x5)), (6, iv (x6))]) rfl ?_
  refine r_aload_n X 3 dX6_areApart_26 rfl rfl ?_
  refine r_iload_n X 5 dX6_areApart_27 rfl rfl ?_
  refine r_iload_n X 6 dX6_areApart_28 rfl rfl ?_
  refine r_iload X 7 dX6_areApart_29 rfl ?_
  refine r_iload X 8 dX6_areApart_31 rfl ?_
  refine r_iload X 9 dX6_areApart_33 rfl ?_
  obtain ⟨r6, σ7, h5, h⟩ := bd2_some h
  refine r_cV (Wd := 0) X (fun l D sz => w_X6_answer l D sz h5) ho4.1 rfl q1682 qs83 q1680 q109 q1683 hy_X6_answer rfl dX6_areApart_35 rfl rfl (Nat.le_of_ble_eq_true rfl) ⟨Nat.le_of_ble_eq_true rfl, Nat.le_of_ble_eq_true rfl⟩ ⟨Nat.le_of_ble_eq_true rfl, Nat.le_of_ble_eq_true rfl⟩ ?_
  refine r_istore X dX6_areApart_38 (hL 10 (by decide)) (lv' := [(10, iv (r6)), (9, iv ((gI (σ3) (a0) 41 0))), (8, iv ((gI (σ3) (a0) 40 0))), (7, iv (r2)), (0, .ref (a0)), (1, iv (x1)), (2, iv (x2)), (3, iv (x3)), (4, iv (x4)), (5, iv (x5)), (6, iv (x6))]) rfl ?_
  refine r_iload X 3 dX6_areApart_40 rfl ?_
  refine r_iload X 0 dX6_areApart_42 rfl ?_
  refine r_icmp_ne (tgt := 70) X dX6_areApart_44 (by decide) h (fun c8 h => ?_) (fun c8 h => ?_)
  · refine r_iload X 3 dX6_areApart_47 rfl ?_
    refine r_if_eq (tgt := 74) X dX6_areApart_49 (by decide) h (fun c9 h => ?_) (fun c9 h => ?_)
    · refine r_iconst X dX6_areApart_74 ?_
      cases h
      exact r_zret X hr (by decide) dX6_areApart_75
    · refine r_iload X 2 dX6_areApart_52 rfl ?_
      refine r_aload_n X 4 dX6_areApart_54 rfl rfl ?_
      obtain ⟨ho11, h⟩ := cO_some h
      refine r_getI (kf := 40) X ho11.1 rfl (by decide) rfl (Or.inl q1281) dX6_areApart_55 ?_
      refine r_icmp_ne (tgt := 70) X dX6_areApart_58 (by decide) h (fun c12 h => ?_) (fun c12 h => ?_)
      · refine r_iload X 1 dX6_areApart_61 rfl ?_
        refine r_aload_n X 4 dX6_areApart_63 rfl rfl ?_
        refine r_getI (kf := 41) X ho11.1 rfl (by decide) rfl (Or.inl q1282) dX6_areApart_64 ?_
        refine r_icmp_eq (tgt := 74) X dX6_areApart_67 (by decide) h (fun c13 h => ?_) (fun c13 h => ?_)
        · refine r_iconst X dX6_areApart_74 ?_
          cases h
          exact r_zret X hr (by decide) dX6_areApart_75
        · refine r_iconst X dX6_areApart_70 ?_
          refine r_goto (tgt := 75) X dX6_areApart_71 (by decide) ?_
          cases h
          exact r_zret X hr (by decide) dX6_areApart_75
      · refine r_iconst X dX6_areApart_70 ?_
        refine r_goto (tgt := 75) X dX6_areApart_71 (by decide) ?_
        cases h
        exact r_zret X hr (by decide) dX6_areApart_75
  · refine r_iconst X dX6_areApart_70 ?_
    refine r_goto (tgt := 75) X dX6_areApart_71 (by decide) ?_
    cases h
    exact r_zret X hr (by decide) dX6_areApart_75
theorem hy_X6_partedBy : yX6_partedBy.cls ≠ "java/lang/invoke/MethodHandle" ∧ yX6_partedBy.cls ≠ "java/lang/invoke/VarHandle" ∧ (parseMethodDescriptor yX6_partedBy.desc).map (fun d => d.parameters.length) = some 2 := by decide +kernel
set_option maxHeartbeats 4000000 in
theorem w_X6_partedBy (l : Launch) (D : DD) (sz : Nat) {σ : St} {a0 : Nat} {x1 : Int} {x2 : Int} {w : Int × St} (h : f_X6_partedBy σ a0 x1 x2 = some w) : Mt l yX6_partedBy cX6_partedBy 7 (some FieldType.int) ({ frames := 7, cells := 0, slots := 0, locals := 124 } : Room) D sz σ [.ref a0, iv (x1), iv (x2)] (.returned (some (iv w.1))) (w.2) 0 0 := by
  refine Mt.of (by decide +kernel) (Nat.le_of_ble_eq_true rfl) ?_
  intro Γ X hr hnl hini hnoh
  have X : Cx Γ cX6_partedBy "DayBoyModel" _ := X
  have hL : ∀ i, i < 7 → i < nLc Γ := fun i q => by rw [hnl]; exact q
  show V Γ σ 0 0 0 [(0, .ref (a0)), (1, iv (x1)), (2, iv (x2))] []
  unfold f_X6_partedBy at h
  obtain ⟨ho0, h⟩ := cO_some h
  refine r_iconst X dX6_partedBy_0 ?_
  refine r_istore_n X dX6_partedBy_1 rfl (hL 3 (by decide)) (lv' := [(3, iv (0)), (0, .ref (a0)), (1, iv (x1)), (2, iv (x2))]) rfl ?_
  refine r_iconst X dX6_partedBy_2 ?_
  refine r_istore X dX6_partedBy_3 (hL 4 (by decide)) (lv' := [(4, iv (0)), (3, iv (0)), (0, .ref (a0)), (1, iv (x1)), (2, iv (x2))]) rfl ?_
  have L5 : ∀ s : Int × Int × St, lp (fun s => f_X6_partedBy_b5 (a0) (x1) (x2) s.1 s.2.1 s.2.2) s = some w → V Γ (s.2.2) 0 0 5 [(0, .ref (a0)), (1, iv (x1)), (2, iv (x2)), (3, iv (s.1)), (4, iv (s.2.1))] [] := by
    refine lp_rule (P := fun s : Int × Int × St => V Γ (s.2.2) 0 0 5 [(0, .ref (a0)), (1, iv (x1)), (2, iv (x2)), (3, iv (s.1)), (4, iv (s.2.1))] []) ?_
    intro s z1 h ihb1 ihe1
    obtain ⟨v3_1, v4_1, σ_1⟩ := s
    have h : f_X6_partedBy_b5 (a0) (x1) (x2) v3_1 v4_1 σ_1 = some z1 := h
    unfold f_X6_partedBy_b5 at h
    show V Γ σ_1 0 0 5 [(0, .ref (a0)), (1, iv (x1)), (2, iv (x2)), (3, iv (v3_1)), (4, iv (v4_1))] []
    refine r_iload X 4 dX6_partedBy_5 rfl ?_
    refine r_aload_n X 0 dX6_partedBy_7 rfl rfl ?_
    obtain ⟨ho1, h⟩ := cO_some h
    refine r_getI (kf := 28) X ho1.1 rfl (by decide) rfl (Or.inl q1269) dX6_partedBy_8 ?_
    refine r_icmp_ge (tgt := 111) X dX6_partedBy_11 (by decide) h (fun c2 h => ?_) (fun c2 h => ?_)
    · refine r_iconst X dX6_partedBy_14 ?_
      refine r_istore X dX6_partedBy_15 (hL 5 (by decide)) (lv' := [(5, iv (0)), (0, .ref (a0)), (1, iv (x1)), (2, iv (x2)), (3, iv (v3_1)), (4, iv (v4_1))]) rfl ?_
      have L17 : ∀ s : Int × Int × St, lp (fun s => f_X6_partedBy_b17 (a0) (x1) (x2) (v4_1) s.1 s.2.1 s.2.2) s = some z1 → V Γ (s.2.2) 0 0 17 [(0, .ref (a0)), (1, iv (x1)), (2, iv (x2)), (3, iv (s.1)), (4, iv (v4_1)), (5, iv (s.2.1))] [] := by
        refine lp_rule (P := fun s : Int × Int × St => V Γ (s.2.2) 0 0 17 [(0, .ref (a0)), (1, iv (x1)), (2, iv (x2)), (3, iv (s.1)), (4, iv (v4_1)), (5, iv (s.2.1))] []) ?_
        intro s z2 h ihb2 ihe2
        obtain ⟨v3_2, v5_2, σ_2⟩ := s
        have h : f_X6_partedBy_b17 (a0) (x1) (x2) (v4_1) v3_2 v5_2 σ_2 = some z2 := h
        unfold f_X6_partedBy_b17 at h
        show V Γ σ_2 0 0 17 [(0, .ref (a0)), (1, iv (x1)), (2, iv (x2)), (3, iv (v3_2)), (4, iv (v4_1)), (5, iv (v5_2))] []
        have J49 : ∀ (v3_j49 : Int) (v5_j49 : Int) (t0_j49 : Int) (σ_j49 : St), f_X6_partedBy_j49 (a0) (x1) (x2) (v4_1) v3_j49 v5_j49 t0_j49 σ_j49 = some z2 → V Γ σ_j49 0 0 49 [(0, .ref (a0)), (1, iv (x1)), (2, iv (x2)), (3, iv (v3_j49)), (4, iv (v4_1)), (5, iv (v5_j49))] [iv (t0_j49)] := by
          intro v3_j49 v5_j49 t0_j49 σ_j49 h
          unfold f_X6_partedBy_j49 at h
          refine r_istore X dX6_partedBy_49 (hL 6 (by decide)) (lv' := [(6, iv (t0_j49)), (0, .ref (a0)), (1, iv (x1)), (2, iv (x2)), (3, iv (v3_j49)), (4, iv (v4_1)), (5, iv (v5_j49))]) rfl ?_
          refine r_iload_n X 4 dX6_partedBy_51 rfl rfl ?_
          refine r_iload X 0 dX6_partedBy_52 rfl ?_
          refine r_if_eq (tgt := 96) X dX6_partedBy_54 (by decide) h (fun c3 h => ?_) (fun c3 h => ?_)
          · refine r_iconst X dX6_partedBy_96 ?_
            refine r_iadd X dX6_partedBy_97 ?_
            refine r_istore_n X dX6_partedBy_98 rfl (hL 3 (by decide)) (lv' := [(3, iv ((v3_j49 + 0))), (6, iv (t0_j49)), (0, .ref (a0)), (1, iv (x1)), (2, iv (x2)), (4, iv (v4_1)), (5, iv (v5_j49))]) rfl ?_
            refine r_iinc X 6 dX6_partedBy_99 rfl (hL 5 (by decide)) (lv' := [(5, iv ((v5_j49 + 1))), (3, iv ((v3_j49 + 0))), (6, iv (t0_j49)), (0, .ref (a0)), (1, iv (x1)), (2, iv (x2)), (4, iv (v4_1))]) rfl ?_
            refine r_goto (tgt := 17) X dX6_partedBy_102 (by decide) ?_
            exact V.sub [3, 4, 5, 1, 6, 0] rfl (ihb2 _ (Option.some.inj h).symm)
          · refine r_aload_n X 1 dX6_partedBy_57 rfl rfl ?_
            refine r_iload X 5 dX6_partedBy_58 rfl ?_
            refine r_iload X 6 dX6_partedBy_60 rfl ?_
            refine r_aload_n X 1 dX6_partedBy_62 rfl rfl ?_
            obtain ⟨ho4, h⟩ := cO_some h
            refine r_getA (kf := 50) X ho4.1 rfl (by decide) (by decide) (Or.inl q1291) dX6_partedBy_63 ?_
            refine r_iload_n X 2 dX6_partedBy_66 rfl rfl ?_
            refine r_iald X ho4.1 (ho4.2 50 (by decide)) rfl rfl rfl (by decide) dX6_partedBy_67 h (fun h => ?_)
            refine r_aload_n X 1 dX6_partedBy_68 rfl rfl ?_
            refine r_getA (kf := 51) X ho4.1 rfl (by decide) (by decide) (Or.inl q1292) dX6_partedBy_69 ?_
            refine r_iload_n X 2 dX6_partedBy_72 rfl rfl ?_
            refine r_iald X ho4.1 (ho4.2 51 (by decide)) rfl rfl rfl (by decide) dX6_partedBy_73 h (fun h => ?_)
            refine r_aload_n X 1 dX6_partedBy_74 rfl rfl ?_
            refine r_getA (kf := 52) X ho4.1 rfl (by decide) (by decide) (Or.inl q1293) dX6_partedBy_75 ?_
            refine r_iload_n X 2 dX6_partedBy_78 rfl rfl ?_
            refine r_iald X ho4.1 (ho4.2 52 (by decide)) rfl rfl rfl (by decide) dX6_partedBy_79 h (fun h => ?_)
            refine r_aload_n X 1 dX6_partedBy_80 rfl rfl ?_
            refine r_getA (kf := 53) X ho4.1 rfl (by decide) (by decide) (Or.inl q1294) dX6_partedBy_81 ?_
            refine r_iload_n X 2 dX6_partedBy_84 rfl rfl ?_
            refine r_iald X ho4.1 (ho4.2 53 (by decide)) rfl rfl rfl (by decide) dX6_partedBy_85 h (fun h => ?_)
            obtain ⟨r6, σ7, h5, h⟩ := bd2_some h
            refine r_cV (Wd := 1) X (fun l D sz => w_X6_areApart l D sz h5) ho4.1 rfl q1770 qs91 q1768 q109 q1771 hy_X6_areApart rfl dX6_partedBy_86 rfl rfl (Nat.le_of_ble_eq_true rfl) ⟨Nat.le_of_ble_eq_true rfl, Nat.le_of_ble_eq_true rfl⟩ ⟨Nat.le_of_ble_eq_true rfl, Nat.le_of_ble_eq_true rfl⟩ ?_
            refine r_if_eq (tgt := 96) X dX6_partedBy_89 (by decide) h (fun c8 h => ?_) (fun c8 h => ?_)
            · refine r_iconst X dX6_partedBy_96 ?_
              refine r_iadd X dX6_partedBy_97 ?_
              refine r_istore_n X dX6_partedBy_98 rfl (hL 3 (by decide)) (lv' := [(3, iv ((v3_j49 + 0))), (6, iv (t0_j49)), (0, .ref (a0)), (1, iv (x1)), (2, iv (x2)), (4, iv (v4_1)), (5, iv (v5_j49))]) rfl ?_
              refine r_iinc X 6 dX6_partedBy_99 rfl (hL 5 (by decide)) (lv' := [(5, iv ((v5_j49 + 1))), (3, iv ((v3_j49 + 0))), (6, iv (t0_j49)), (0, .ref (a0)), (1, iv (x1)), (2, iv (x2)), (4, iv (v4_1))]) rfl ?_
              refine r_goto (tgt := 17) X dX6_partedBy_102 (by decide) ?_
              exact V.sub [3, 4, 5, 1, 6, 0] rfl (ihb2 _ (Option.some.inj h).symm)
            · refine r_iconst X dX6_partedBy_92 ?_
              refine r_goto (tgt := 97) X dX6_partedBy_93 (by decide) ?_
              refine r_iadd X dX6_partedBy_97 ?_
              refine r_istore_n X dX6_partedBy_98 rfl (hL 3 (by decide)) (lv' := [(3, iv ((v3_j49 + 1))), (6, iv (t0_j49)), (0, .ref (a0)), (1, iv (x1)), (2, iv (x2)), (4, iv (v4_1)), (5, iv (v5_j49))]) rfl ?_
              refine r_iinc X 6 dX6_partedBy_99 rfl (hL 5 (by decide)) (lv' := [(5, iv ((v5_j49 + 1))), (3, iv ((v3_j49 + 1))), (6, iv (t0_j49)), (0, .ref (a0)), (1, iv (x1)), (2, iv (x2)), (4, iv (v4_1))]) rfl ?_
              refine r_goto (tgt := 17) X dX6_partedBy_102 (by decide) ?_
              exact V.sub [3, 4, 5, 1, 6, 0] rfl (ihb2 _ (Option.some.inj h).symm)
        have J48 : ∀ (v3_j48 : Int) (v5_j48 : Int) (σ_j48 : St), f_X6_partedBy_j48 (a0) (x1) (x2) (v4_1) v3_j48 v5_j48 σ_j48 = some z2 → V Γ σ_j48 0 0 48 [(0, .ref (a0)), (1, iv (x1)), (2, iv (x2)), (3, iv (v3_j48)), (4, iv (v4_1)), (5, iv (v5_j48))] [] := by
          intro v3_j48 v5_j48 σ_j48 h
          unfold f_X6_partedBy_j48 at h
          refine r_iconst X dX6_partedBy_48 ?_
          exact V.sub [0, 1, 2, 3, 4, 5] rfl (J49 (v3_j48) (v5_j48) (0) (σ_j48) h)
        refine r_iload X 5 dX6_partedBy_17 rfl ?_
        refine r_iload X 4 dX6_partedBy_19 rfl ?_
        refine r_icmp_ge (tgt := 105) X dX6_partedBy_21 (by decide) h (fun c9 h => ?_) (fun c9 h => ?_)
        · refine r_iload_n X 2 dX6_partedBy_24 rfl rfl ?_
          refine r_iload X 4 dX6_partedBy_25 rfl ?_
          refine r_ishr X dX6_partedBy_27 ?_
          refine r_iconst X dX6_partedBy_28 ?_
          refine r_iand X dX6_partedBy_29 ?_
          refine r_iconst X dX6_partedBy_30 ?_
          refine r_icmp_ne (tgt := 48) X dX6_partedBy_31 (by decide) h (fun c10 h => ?_) (fun c10 h => ?_)
          · refine r_iload_n X 2 dX6_partedBy_34 rfl rfl ?_
            refine r_iload X 5 dX6_partedBy_35 rfl ?_
            refine r_ishr X dX6_partedBy_37 ?_
            refine r_iconst X dX6_partedBy_38 ?_
            refine r_iand X dX6_partedBy_39 ?_
            refine r_iconst X dX6_partedBy_40 ?_
            refine r_icmp_ne (tgt := 48) X dX6_partedBy_41 (by decide) h (fun c11 h => ?_) (fun c11 h => ?_)
            · refine r_iconst X dX6_partedBy_44 ?_
              refine r_goto (tgt := 49) X dX6_partedBy_45 (by decide) ?_
              exact V.sub [0, 1, 2, 3, 4, 5] rfl (J49 (v3_2) (v5_2) (1) (σ_2) h)
            · exact V.sub [0, 1, 2, 3, 4, 5] rfl (J48 (v3_2) (v5_2) (σ_2) h)
          · exact V.sub [0, 1, 2, 3, 4, 5] rfl (J48 (v3_2) (v5_2) (σ_2) h)
        · have h := ex_some h ihe2
          refine r_iinc X 4 dX6_partedBy_105 rfl (hL 4 (by decide)) (lv' := [(4, iv ((v4_1 + 1))), (0, .ref (a0)), (1, iv (x1)), (2, iv (x2)), (3, iv (v3_2)), (5, iv (v5_2))]) rfl ?_
          refine r_goto (tgt := 5) X dX6_partedBy_108 (by decide) ?_
          exact V.sub [1, 2, 3, 4, 0] rfl (ihb1 _ (Option.some.inj h).symm)
      exact V.sub [1, 2, 3, 4, 5, 0] rfl (L17 (v3_1, 0, σ_1) h)
    · have h := ex_some h ihe1
      refine r_iload_n X 3 dX6_partedBy_111 rfl rfl ?_
      cases h
      exact r_iret X hr dX6_partedBy_112
  exact V.sub [2, 3, 4, 1, 0] rfl (L5 (0, 0, σ) h)
