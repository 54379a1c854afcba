/-! walks (printed by gen.py) -/
set_option maxRecDepth 100000
theorem hy_X1_parts : yX1_parts.cls ≠ "java/lang/invoke/MethodHandle" ∧ yX1_parts.cls ≠ "java/lang/invoke/VarHandle" ∧ (parseMethodDescriptor yX1_parts.desc).map (fun d => d.parameters.length) = some 8 := by decide +kernel
set_option maxHeartbeats 4000000 in
theorem w_X1_parts (l : Launch) (D : DD) (sz : Nat) {σ : St} {p0 : Nat} {p1 : Nat} {p2 : Nat} {x3 : Int} {x4 : Int} {x5 : Int} {x6 : Int} {x7 : Int} {w : Int × St} (h : f_X1_parts σ p0 p1 p2 x3 x4 x5 x6 x7 = some w) : Mt l yX1_parts cX1_parts 8 (some FieldType.boolean) ({ frames := 9, cells := 0, slots := 0, locals := 139 } : Room) D sz σ [.ref (p0), .ref (p1), .ref (p2), iv (x3), iv (x4), iv (x5), iv (x6), iv (x7)] (.returned (some (iv w.1))) (w.2) 0 0 := by
  refine Mt.of (by decide +kernel) (Nat.le_of_ble_eq_true rfl) ?_
  intro Γ X hr hnl hini hnoh
  have X : Cx Γ cX1_parts "DayBoy" _ := X
  have hL : ∀ i, i < 8 → i < nLc Γ := fun i q => by rw [hnl]; exact q
  show V Γ σ 0 0 0 [(0, .ref (p0)), (1, .ref (p1)), (2, .ref (p2)), (3, iv (x3)), (4, iv (x4)), (5, iv (x5)), (6, iv (x6)), (7, iv (x7))] []
  unfold f_X1_parts at h
  have J10 : ∀ (σ_j10 : St), f_X1_parts_j10 (x6) (x7) σ_j10 = some w → V Γ σ_j10 0 0 10 [(6, iv (x6)), (7, iv (x7))] [] := by
    intro σ_j10 h
    unfold f_X1_parts_j10 at h
    refine r_iload X 0 dX1_parts_10 rfl ?_
    refine r_iload X 1 dX1_parts_12 rfl ?_
    refine r_icmp_eq (tgt := 21) X dX1_parts_14 (by decide) h (fun c1 h => ?_) (fun c1 h => ?_)
    · refine r_iconst X dX1_parts_21 ?_
      cases h
      exact r_zret X hr (by decide) dX1_parts_22
    · refine r_iconst X dX1_parts_17 ?_
      refine r_goto (tgt := 22) X dX1_parts_18 (by decide) ?_
      cases h
      exact r_zret X hr (by decide) dX1_parts_22
  refine r_iload X 6 dX1_parts_0 rfl ?_
  refine r_if_eq (tgt := 10) X dX1_parts_2 (by decide) h (fun c4 h => ?_) (fun c4 h => ?_)
  · exact V.sub [6, 7] rfl (J10 (σ) h)
  · refine r_iload X 7 dX1_parts_5 rfl ?_
    refine r_if_ne (tgt := 23) X dX1_parts_7 (by decide) h (fun c5 h => ?_) (fun c5 h => ?_)
    · exact V.sub [6, 7] rfl (J10 (σ) h)
    · refine r_aload_n X 0 dX1_parts_23 rfl rfl ?_
      refine r_aload_n X 2 dX1_parts_24 rfl rfl ?_
      refine r_iload_n X 3 dX1_parts_25 rfl rfl ?_
      refine r_iload X 4 dX1_parts_26 rfl ?_
      refine r_iload X 5 dX1_parts_28 rfl ?_
      obtain ⟨r7, σ8, h6, h⟩ := bd2_some h
      refine r_cS (Wd := 0) X (fun l D sz => w_X1_answerOf l D sz h6) q897 q896 q104 q898 hy_X1_answerOf rfl dX1_parts_30 rfl rfl (Nat.le_of_ble_eq_true rfl) ⟨Nat.le_of_ble_eq_true rfl, Nat.le_of_ble_eq_true rfl⟩ ⟨Nat.le_of_ble_eq_true rfl, Nat.le_of_ble_eq_true rfl⟩ ?_
      refine r_aload_n X 1 dX1_parts_33 rfl rfl ?_
      refine r_aload_n X 2 dX1_parts_34 rfl rfl ?_
      refine r_iload_n X 3 dX1_parts_35 rfl rfl ?_
      refine r_iload X 4 dX1_parts_36 rfl ?_
      refine r_iload X 5 dX1_parts_38 rfl ?_
      obtain ⟨r10, σ11, h9, h⟩ := bd2_some h
      refine r_cS (Wd := 1) X (fun l D sz => w_X1_answerOf l D sz h9) q897 q896 q104 q898 hy_X1_answerOf rfl dX1_parts_40 rfl rfl (Nat.le_of_ble_eq_true rfl) ⟨Nat.le_of_ble_eq_true rfl, Nat.le_of_ble_eq_true rfl⟩ ⟨Nat.le_of_ble_eq_true rfl, Nat.le_of_ble_eq_true rfl⟩ ?_
      refine r_icmp_ne (tgt := 69) X dX1_parts_43 (by decide) h (fun c12 h => ?_) (fun c12 h => ?_)
      · refine r_aload_n X 0 dX1_parts_46 rfl rfl ?_
        refine r_aload_n X 2 dX1_parts_47 rfl rfl ?_
        refine r_iload_n X 3 dX1_parts_48 rfl rfl ?_
        refine r_iload X 4 dX1_parts_49 rfl ?_
        refine r_iload X 5 dX1_parts_51 rfl ?_
        obtain ⟨r14, σ15, h13, h⟩ := bd2_some h
        refine r_cS (Wd := 0) X (fun l D sz => w_X1_tenthsOf l D sz h13) q901 q900 q104 q902 hy_X1_tenthsOf rfl dX1_parts_53 rfl rfl (Nat.le_of_ble_eq_true rfl) ⟨Nat.le_of_ble_eq_true rfl, Nat.le_of_ble_eq_true rfl⟩ ⟨Nat.le_of_ble_eq_true rfl, Nat.le_of_ble_eq_true rfl⟩ ?_
        refine r_aload_n X 1 dX1_parts_56 rfl rfl ?_
        refine r_aload_n X 2 dX1_parts_57 rfl rfl ?_
        refine r_iload_n X 3 dX1_parts_58 rfl rfl ?_
        refine r_iload X 4 dX1_parts_59 rfl ?_
        refine r_iload X 5 dX1_parts_61 rfl ?_
        obtain ⟨r17, σ18, h16, h⟩ := bd2_some h
        refine r_cS (Wd := 1) X (fun l D sz => w_X1_tenthsOf l D sz h16) q901 q900 q104 q902 hy_X1_tenthsOf rfl dX1_parts_63 rfl rfl (Nat.le_of_ble_eq_true rfl) ⟨Nat.le_of_ble_eq_true rfl, Nat.le_of_ble_eq_true rfl⟩ ⟨Nat.le_of_ble_eq_true rfl, Nat.le_of_ble_eq_true rfl⟩ ?_
        refine r_icmp_eq (tgt := 73) X dX1_parts_66 (by decide) h (fun c19 h => ?_) (fun c19 h => ?_)
        · refine r_iconst X dX1_parts_73 ?_
          cases h
          exact r_zret X hr (by decide) dX1_parts_74
        · refine r_iconst X dX1_parts_69 ?_
          refine r_goto (tgt := 74) X dX1_parts_70 (by decide) ?_
          cases h
          exact r_zret X hr (by decide) dX1_parts_74
      · refine r_iconst X dX1_parts_69 ?_
        refine r_goto (tgt := 74) X dX1_parts_70 (by decide) ?_
        cases h
        exact r_zret X hr (by decide) dX1_parts_74
theorem hy_X1_partsAt : yX1_partsAt.cls ≠ "java/lang/invoke/MethodHandle" ∧ yX1_partsAt.cls ≠ "java/lang/invoke/VarHandle" ∧ (parseMethodDescriptor yX1_partsAt.desc).map (fun d => d.parameters.length) = some 6 := by decide +kernel
set_option maxHeartbeats 4000000 in
theorem w_X1_partsAt (l : Launch) (D : DD) (sz : Nat) {σ : St} {a0 : Nat} {p1 : Nat} {p2 : Nat} {p3 : Nat} {x4 : Int} {x5 : Int} {x6 : Int} {w : Int × St} (h : f_X1_partsAt σ a0 p1 p2 p3 x4 x5 x6 = some w) : Mt l yX1_partsAt cX1_partsAt 7 (some FieldType.boolean) ({ frames := 10, cells := 0, slots := 0, locals := 158 } : Room) D sz σ [.ref a0, .ref (p1), .ref (p2), .ref (p3), iv (x4), iv (x5), iv (x6)] (.returned (some (iv w.1))) (w.2) 0 0 := by
  refine Mt.of (by decide +kernel) (Nat.le_of_ble_eq_true rfl) ?_
  intro Γ X hr hnl hini hnoh
  have X : Cx Γ cX1_partsAt "DayBoy" _ := X
  have hL : ∀ i, i < 7 → i < nLc Γ := fun i q => by rw [hnl]; exact q
  show V Γ σ 0 0 0 [(0, .ref (a0)), (1, .ref (p1)), (2, .ref (p2)), (3, .ref (p3)), (4, iv (x4)), (5, iv (x5)), (6, iv (x6))] []
  unfold f_X1_partsAt at h
  obtain ⟨ho0, h⟩ := cO_some h
  refine r_aload_n X 1 dX1_partsAt_0 rfl rfl ?_
  refine r_aload_n X 2 dX1_partsAt_1 rfl rfl ?_
  refine r_aload_n X 3 dX1_partsAt_2 rfl rfl ?_
  refine r_iload X 4 dX1_partsAt_3 rfl ?_
  refine r_iload X 5 dX1_partsAt_5 rfl ?_
  refine r_iload X 6 dX1_partsAt_7 rfl ?_
  refine r_aload_n X 0 dX1_partsAt_9 rfl rfl ?_
  refine r_aload_n X 1 dX1_partsAt_10 rfl rfl ?_
  refine r_aload_n X 3 dX1_partsAt_11 rfl rfl ?_
  refine r_iload X 4 dX1_partsAt_12 rfl ?_
  refine r_iload X 5 dX1_partsAt_14 rfl ?_
  obtain ⟨r2, σ3, h1, h⟩ := bd2_some h
  refine r_cV (Wd := 6) X (fun l D sz => w_X1_hasWay l D sz h1) ho0.1 rfl q856 qs28 q854 q104 q857 hy_X1_hasWay rfl dX1_partsAt_16 rfl rfl (Nat.le_of_ble_eq_true rfl) ⟨Nat.le_of_ble_eq_true rfl, Nat.le_of_ble_eq_true rfl⟩ ⟨Nat.le_of_ble_eq_true rfl, Nat.le_of_ble_eq_true rfl⟩ ?_
  refine r_aload_n X 0 dX1_partsAt_19 rfl rfl ?_
  refine r_aload_n X 2 dX1_partsAt_20 rfl rfl ?_
  refine r_aload_n X 3 dX1_partsAt_21 rfl rfl ?_
  refine r_iload X 4 dX1_partsAt_22 rfl ?_
  refine r_iload X 5 dX1_partsAt_24 rfl ?_
  obtain ⟨ho5, h⟩ := cO_some h
  obtain ⟨r6, σ7, h4, h⟩ := bd2_some h
  refine r_cV (Wd := 7) X (fun l D sz => w_X1_hasWay l D sz h4) ho5.1 rfl q856 qs28 q854 q104 q857 hy_X1_hasWay rfl dX1_partsAt_26 rfl rfl (Nat.le_of_ble_eq_true rfl) ⟨Nat.le_of_ble_eq_true rfl, Nat.le_of_ble_eq_true rfl⟩ ⟨Nat.le_of_ble_eq_true rfl, Nat.le_of_ble_eq_true rfl⟩ ?_
  obtain ⟨r9, σ10, h8, h⟩ := bd2_some h
  refine r_cS (Wd := 0) X (fun l D sz => w_X1_parts l D sz h8) q1057 q1056 q104 q1058 hy_X1_parts rfl dX1_partsAt_29 rfl rfl (Nat.le_of_ble_eq_true rfl) ⟨Nat.le_of_ble_eq_true rfl, Nat.le_of_ble_eq_true rfl⟩ ⟨Nat.le_of_ble_eq_true rfl, Nat.le_of_ble_eq_true rfl⟩ ?_
  obtain ⟨c11, h⟩ := ck_some h
  cases h
  exact r_zret X hr (c11) dX1_partsAt_32
theorem hy_X1_partedBy : yX1_partedBy.cls ≠ "java/lang/invoke/MethodHandle" ∧ yX1_partedBy.cls ≠ "java/lang/invoke/VarHandle" ∧ (parseMethodDescriptor yX1_partedBy.desc).map (fun d => d.parameters.length) = some 2 := by decide +kernel
set_option maxHeartbeats 4000000 in
theorem w_X1_partedBy (l : Launch) (D : DD) (sz : Nat) {σ : St} {a0 : Nat} {x1 : Int} {x2 : Int} {w : Int × St} (h : f_X1_partedBy σ a0 x1 x2 = some w) : Mt l yX1_partedBy cX1_partedBy 6 (some FieldType.int) ({ frames := 11, cells := 0, slots := 0, locals := 177 } : Room) D sz σ [.ref a0, iv (x1), iv (x2)] (.returned (some (iv w.1))) (w.2) 0 0 := by
  refine Mt.of (by decide +kernel) (Nat.le_of_ble_eq_true rfl) ?_
  intro Γ X hr hnl hini hnoh
  have X : Cx Γ cX1_partedBy "DayBoy" _ := X
  have hL : ∀ i, i < 6 → i < nLc Γ := fun i q => by rw [hnl]; exact q
  show V Γ σ 0 0 0 [(0, .ref (a0)), (1, iv (x1)), (2, iv (x2))] []
  unfold f_X1_partedBy at h
  obtain ⟨ho0, h⟩ := cO_some h
  refine r_iconst X dX1_partedBy_0 ?_
  refine r_istore_n X dX1_partedBy_1 rfl (hL 3 (by decide)) (lv' := [(3, iv (0)), (0, .ref (a0)), (1, iv (x1)), (2, iv (x2))]) rfl ?_
  refine r_iconst X dX1_partedBy_2 ?_
  refine r_istore X dX1_partedBy_3 (hL 4 (by decide)) (lv' := [(4, iv (0)), (3, iv (0)), (0, .ref (a0)), (1, iv (x1)), (2, iv (x2))]) rfl ?_
  have L5 : ∀ s : Int × Int × St, lp (fun s => f_X1_partedBy_b5 (a0) (x1) (x2) s.1 s.2.1 s.2.2) s = some w → V Γ (s.2.2) 0 0 5 [(0, .ref (a0)), (1, iv (x1)), (2, iv (x2)), (3, iv (s.1)), (4, iv (s.2.1))] [] := by
    refine lp_rule (P := fun s : Int × Int × St => V Γ (s.2.2) 0 0 5 [(0, .ref (a0)), (1, iv (x1)), (2, iv (x2)), (3, iv (s.1)), (4, iv (s.2.1))] []) ?_
    intro s z1 h ihb1 ihe1
    obtain ⟨v3_1, v4_1, σ_1⟩ := s
    have h : f_X1_partedBy_b5 (a0) (x1) (x2) v3_1 v4_1 σ_1 = some z1 := h
    unfold f_X1_partedBy_b5 at h
    show V Γ σ_1 0 0 5 [(0, .ref (a0)), (1, iv (x1)), (2, iv (x2)), (3, iv (v3_1)), (4, iv (v4_1))] []
    refine r_iload X 4 dX1_partedBy_5 rfl ?_
    refine r_aload_n X 0 dX1_partedBy_7 rfl rfl ?_
    obtain ⟨ho1, h⟩ := cO_some h
    refine r_getI (kf := 7) X ho1.1 rfl (by decide) rfl (Or.inl q313) dX1_partedBy_8 ?_
    refine r_icmp_ge (tgt := 109) X dX1_partedBy_11 (by decide) h (fun c2 h => ?_) (fun c2 h => ?_)
    · refine r_iconst X dX1_partedBy_14 ?_
      refine r_istore X dX1_partedBy_15 (hL 5 (by decide)) (lv' := [(5, iv (0)), (0, .ref (a0)), (1, iv (x1)), (2, iv (x2)), (3, iv (v3_1)), (4, iv (v4_1))]) rfl ?_
      have L17 : ∀ s : Int × Int × St, lp (fun s => f_X1_partedBy_b17 (a0) (x1) (x2) (v4_1) s.1 s.2.1 s.2.2) s = some z1 → V Γ (s.2.2) 0 0 17 [(0, .ref (a0)), (1, iv (x1)), (2, iv (x2)), (3, iv (s.1)), (4, iv (v4_1)), (5, iv (s.2.1))] [] := by
        refine lp_rule (P := fun s : Int × Int × St => V Γ (s.2.2) 0 0 17 [(0, .ref (a0)), (1, iv (x1)), (2, iv (x2)), (3, iv (s.1)), (4, iv (v4_1)), (5, iv (s.2.1))] []) ?_
        intro s z2 h ihb2 ihe2
        obtain ⟨v3_2, v5_2, σ_2⟩ := s
        have h : f_X1_partedBy_b17 (a0) (x1) (x2) (v4_1) v3_2 v5_2 σ_2 = some z2 := h
        unfold f_X1_partedBy_b17 at h
        show V Γ σ_2 0 0 17 [(0, .ref (a0)), (1, iv (x1)), (2, iv (x2)), (3, iv (v3_2)), (4, iv (v4_1)), (5, iv (v5_2))] []
        refine r_iload X 5 dX1_partedBy_17 rfl ?_
        refine r_iload X 4 dX1_partedBy_19 rfl ?_
        refine r_icmp_ge (tgt := 103) X dX1_partedBy_21 (by decide) h (fun c3 h => ?_) (fun c3 h => ?_)
        · refine r_iload_n X 3 dX1_partedBy_24 rfl rfl ?_
          refine r_iload_n X 2 dX1_partedBy_25 rfl rfl ?_
          refine r_iload X 4 dX1_partedBy_26 rfl ?_
          refine r_ishr X dX1_partedBy_28 ?_
          refine r_iload_n X 2 dX1_partedBy_29 rfl rfl ?_
          refine r_iload X 5 dX1_partedBy_30 rfl ?_
          refine r_ishr X dX1_partedBy_32 ?_
          refine r_iand X dX1_partedBy_33 ?_
          refine r_iconst X dX1_partedBy_34 ?_
          refine r_iand X dX1_partedBy_35 ?_
          refine r_iconst X dX1_partedBy_36 ?_
          refine r_icmp_ne (tgt := 94) X dX1_partedBy_37 (by decide) h (fun c4 h => ?_) (fun c4 h => ?_)
          · refine r_aload_n X 0 dX1_partedBy_40 rfl rfl ?_
            refine r_aload_n X 0 dX1_partedBy_41 rfl rfl ?_
            obtain ⟨ho5, h⟩ := cO_some h
            refine r_getA (kf := 5) X ho5.1 rfl (by decide) (by decide) (Or.inl q311) dX1_partedBy_42 ?_
            refine r_iload X 4 dX1_partedBy_45 rfl ?_
            refine r_aald X ho5.1 (ho5.2 5 (by decide)) rfl rfl (by decide) rfl (by decide) dX1_partedBy_47 h (fun b6 h => ?_)
            refine r_aload_n X 0 dX1_partedBy_48 rfl rfl ?_
            refine r_getA (kf := 5) X ho5.1 rfl (by decide) (by decide) (Or.inl q311) dX1_partedBy_49 ?_
            refine r_iload X 5 dX1_partedBy_52 rfl ?_
            refine r_aald X ho5.1 (ho5.2 5 (by decide)) rfl rfl (by decide) rfl (by decide) dX1_partedBy_54 h (fun b7 h => ?_)
            refine r_aload_n X 0 dX1_partedBy_55 rfl rfl ?_
            refine r_getA (kf := 4) X ho5.1 rfl (by decide) (by decide) (Or.inl q310) dX1_partedBy_56 ?_
            refine r_aload_n X 0 dX1_partedBy_59 rfl rfl ?_
            refine r_getA (kf := 16) X ho5.1 rfl (by decide) (by decide) (Or.inl q323) dX1_partedBy_60 ?_
            refine r_iload_n X 1 dX1_partedBy_63 rfl rfl ?_
            refine r_iald X ho5.1 (ho5.2 16 (by decide)) rfl rfl rfl (by decide) dX1_partedBy_64 h (fun h => ?_)
            refine r_aald X ho5.1 (ho5.2 4 (by decide)) rfl rfl (by decide) rfl (by decide) dX1_partedBy_65 h (fun b8 h => ?_)
            refine r_aload_n X 0 dX1_partedBy_66 rfl rfl ?_
            refine r_getA (kf := 17) X ho5.1 rfl (by decide) (by decide) (Or.inl q324) dX1_partedBy_67 ?_
            refine r_iload_n X 1 dX1_partedBy_70 rfl rfl ?_
            refine r_iald X ho5.1 (ho5.2 17 (by decide)) rfl rfl rfl (by decide) dX1_partedBy_71 h (fun h => ?_)
            refine r_aload_n X 0 dX1_partedBy_72 rfl rfl ?_
            refine r_getA (kf := 18) X ho5.1 rfl (by decide) (by decide) (Or.inl q325) dX1_partedBy_73 ?_
            refine r_iload_n X 1 dX1_partedBy_76 rfl rfl ?_
            refine r_iald X ho5.1 (ho5.2 18 (by decide)) rfl rfl rfl (by decide) dX1_partedBy_77 h (fun h => ?_)
            refine r_aload_n X 0 dX1_partedBy_78 rfl rfl ?_
            refine r_getA (kf := 19) X ho5.1 rfl (by decide) (by decide) (Or.inl q326) dX1_partedBy_79 ?_
            refine r_iload_n X 1 dX1_partedBy_82 rfl rfl ?_
            refine r_iald X ho5.1 (ho5.2 19 (by decide)) rfl rfl rfl (by decide) dX1_partedBy_83 h (fun h => ?_)
            obtain ⟨r10, σ11, h9, h⟩ := bd2_some h
            refine r_cV (Wd := 1) X (fun l D sz => w_X1_partsAt l D sz h9) ho5.1 rfl q1054 qs37 q1052 q104 q1055 hy_X1_partsAt rfl dX1_partedBy_84 rfl rfl (Nat.le_of_ble_eq_true rfl) ⟨Nat.le_of_ble_eq_true rfl, Nat.le_of_ble_eq_true rfl⟩ ⟨Nat.le_of_ble_eq_true rfl, Nat.le_of_ble_eq_true rfl⟩ ?_
            refine r_if_eq (tgt := 94) X dX1_partedBy_87 (by decide) h (fun c12 h => ?_) (fun c12 h => ?_)
            · refine r_iconst X dX1_partedBy_94 ?_
              refine r_iadd X dX1_partedBy_95 ?_
              refine r_istore_n X dX1_partedBy_96 rfl (hL 3 (by decide)) (lv' := [(3, iv ((v3_2 + 0))), (0, .ref (a0)), (1, iv (x1)), (2, iv (x2)), (4, iv (v4_1)), (5, iv (v5_2))]) rfl ?_
              refine r_iinc X 5 dX1_partedBy_97 rfl (hL 5 (by decide)) (lv' := [(5, iv ((v5_2 + 1))), (3, iv ((v3_2 + 0))), (0, .ref (a0)), (1, iv (x1)), (2, iv (x2)), (4, iv (v4_1))]) rfl ?_
              refine r_goto (tgt := 17) X dX1_partedBy_100 (by decide) ?_
              exact V.sub [2, 3, 4, 1, 5, 0] rfl (ihb2 _ (Option.some.inj h).symm)
            · refine r_iconst X dX1_partedBy_90 ?_
              refine r_goto (tgt := 95) X dX1_partedBy_91 (by decide) ?_
              refine r_iadd X dX1_partedBy_95 ?_
              refine r_istore_n X dX1_partedBy_96 rfl (hL 3 (by decide)) (lv' := [(3, iv ((v3_2 + 1))), (0, .ref (a0)), (1, iv (x1)), (2, iv (x2)), (4, iv (v4_1)), (5, iv (v5_2))]) rfl ?_
              refine r_iinc X 5 dX1_partedBy_97 rfl (hL 5 (by decide)) (lv' := [(5, iv ((v5_2 + 1))), (3, iv ((v3_2 + 1))), (0, .ref (a0)), (1, iv (x1)), (2, iv (x2)), (4, iv (v4_1))]) rfl ?_
              refine r_goto (tgt := 17) X dX1_partedBy_100 (by decide) ?_
              exact V.sub [2, 3, 4, 1, 5, 0] rfl (ihb2 _ (Option.some.inj h).symm)
          · refine r_iconst X dX1_partedBy_94 ?_
            refine r_iadd X dX1_partedBy_95 ?_
            refine r_istore_n X dX1_partedBy_96 rfl (hL 3 (by decide)) (lv' := [(3, iv ((v3_2 + 0))), (0, .ref (a0)), (1, iv (x1)), (2, iv (x2)), (4, iv (v4_1)), (5, iv (v5_2))]) rfl ?_
            refine r_iinc X 5 dX1_partedBy_97 rfl (hL 5 (by decide)) (lv' := [(5, iv ((v5_2 + 1))), (3, iv ((v3_2 + 0))), (0, .ref (a0)), (1, iv (x1)), (2, iv (x2)), (4, iv (v4_1))]) rfl ?_
            refine r_goto (tgt := 17) X dX1_partedBy_100 (by decide) ?_
            exact V.sub [2, 3, 4, 1, 5, 0] rfl (ihb2 _ (Option.some.inj h).symm)
        · have h := ex_some h ihe2
          refine r_iinc X 4 dX1_partedBy_103 rfl (hL 4 (by decide)) (lv' := [(4, iv ((v4_1 + 1))), (0, .ref (a0)), (1, iv (x1)), (2, iv (x2)), (3, iv (v3_2)), (5, iv (v5_2))]) rfl ?_
          refine r_goto (tgt := 5) X dX1_partedBy_106 (by decide) ?_
          exact V.sub [1, 2, 3, 4, 0] rfl (ihb1 _ (Option.some.inj h).symm)
      exact V.sub [1, 2, 3, 4, 5, 0] rfl (L17 (v3_1, 0, σ_1) h)
    · have h := ex_some h ihe1
      refine r_iload_n X 3 dX1_partedBy_109 rfl rfl ?_
      cases h
      exact r_iret X hr dX1_partedBy_110
  exact V.sub [2, 3, 4, 1, 0] rfl (L5 (0, 0, σ) h)
theorem hy_X1_parted : yX1_parted.cls ≠ "java/lang/invoke/MethodHandle" ∧ yX1_parted.cls ≠ "java/lang/invoke/VarHandle" ∧ (parseMethodDescriptor yX1_parted.desc).map (fun d => d.parameters.length) = some 2 := by decide +kernel
set_option maxHeartbeats 4000000 in
theorem w_X1_parted (l : Launch) (D : DD) (sz : Nat) {σ : St} {a0 : Nat} {x1 : Int} {x2 : Int} {w : Int × St} (h : f_X1_parted σ a0 x1 x2 = some w) : Mt l yX1_parted cX1_parted 3 (some FieldType.int) ({ frames := 12, cells := 0, slots := 0, locals := 194 } : Room) D sz σ [.ref a0, iv (x1), iv (x2)] (.returned (some (iv w.1))) (w.2) 0 0 := by
  refine Mt.of (by decide +kernel) (Nat.le_of_ble_eq_true rfl) ?_
  intro Γ X hr hnl hini hnoh
  have X : Cx Γ cX1_parted "DayBoy" _ := X
  have hL : ∀ i, i < 3 → i < nLc Γ := fun i q => by rw [hnl]; exact q
  show V Γ σ 0 0 0 [(0, .ref (a0)), (1, iv (x1)), (2, iv (x2))] []
  unfold f_X1_parted at h
  obtain ⟨ho0, h⟩ := cO_some h
  refine r_iload_n X 1 dX1_parted_0 rfl rfl ?_
  obtain ⟨c1, h⟩ := ck_some h
  refine r_i2l X dX1_parted_1 c1 ?_
  refine r_lconst (y := 0) X dX1_parted_2 rfl ?_
  refine r_aload_n X 0 dX1_parted_3 rfl rfl ?_
  refine r_getI (kf := 20) X ho0.1 rfl (by decide) rfl (Or.inl q327) dX1_parted_4 ?_
  refine r_iconst X dX1_parted_7 ?_
  refine r_isub X dX1_parted_8 ?_
  obtain ⟨c2, h⟩ := ck_some h
  refine r_i2l X dX1_parted_9 c2 ?_
  obtain ⟨r4, h3, h⟩ := bd_some h
  refine r_cS (Wd := 0) X (fun l D sz => w_X1_isIn l D sz h3) q414 q413 q104 q415 hy_X1_isIn rfl dX1_parted_10 rfl rfl (Nat.le_of_ble_eq_true rfl) ⟨Nat.le_of_ble_eq_true rfl, Nat.le_of_ble_eq_true rfl⟩ ⟨Nat.le_of_ble_eq_true rfl, Nat.le_of_ble_eq_true rfl⟩ ?_
  refine r_if_eq (tgt := 33) X dX1_parted_13 (by decide) h (fun c5 h => ?_) (fun c5 h => ?_)
  · refine r_iconst X dX1_parted_33 ?_
    cases h
    exact r_iret X hr dX1_parted_34
  · refine r_aload_n X 0 dX1_parted_16 rfl rfl ?_
    refine r_iload_n X 2 dX1_parted_17 rfl rfl ?_
    obtain ⟨r7, h6, h⟩ := bd_some h
    refine r_cV (Wd := 0) X (fun l D sz => w_X1_areHeads l D sz h6) ho0.1 rfl q1046 qs35 q1044 q104 q1047 hy_X1_areHeads rfl dX1_parted_18 rfl rfl (Nat.le_of_ble_eq_true rfl) ⟨Nat.le_of_ble_eq_true rfl, Nat.le_of_ble_eq_true rfl⟩ ⟨Nat.le_of_ble_eq_true rfl, Nat.le_of_ble_eq_true rfl⟩ ?_
    refine r_if_eq (tgt := 33) X dX1_parted_21 (by decide) h (fun c8 h => ?_) (fun c8 h => ?_)
    · refine r_iconst X dX1_parted_33 ?_
      cases h
      exact r_iret X hr dX1_parted_34
    · refine r_aload_n X 0 dX1_parted_24 rfl rfl ?_
      refine r_iload_n X 1 dX1_parted_25 rfl rfl ?_
      refine r_iload_n X 2 dX1_parted_26 rfl rfl ?_
      obtain ⟨r10, σ11, h9, h⟩ := bd2_some h
      refine r_cV (Wd := 0) X (fun l D sz => w_X1_partedBy l D sz h9) ho0.1 rfl q1050 qs36 q1048 q104 q1051 hy_X1_partedBy rfl dX1_parted_27 rfl rfl (Nat.le_of_ble_eq_true rfl) ⟨Nat.le_of_ble_eq_true rfl, Nat.le_of_ble_eq_true rfl⟩ ⟨Nat.le_of_ble_eq_true rfl, Nat.le_of_ble_eq_true rfl⟩ ?_
      refine r_goto (tgt := 34) X dX1_parted_30 (by decide) ?_
      cases h
      exact r_iret X hr dX1_parted_34
theorem hy_X1_next : yX1_next.cls ≠ "java/lang/invoke/MethodHandle" ∧ yX1_next.cls ≠ "java/lang/invoke/VarHandle" ∧ (parseMethodDescriptor yX1_next.desc).map (fun d => d.parameters.length) = some 1 := by decide +kernel
set_option maxHeartbeats 4000000 in
theorem w_X1_next (l : Launch) (D : DD) (sz : Nat) {σ : St} {a0 : Nat} {x1 : Int} {w : Int × St} (h : f_X1_next σ a0 x1 = some w) : Mt l yX1_next cX1_next 4 (some FieldType.int) ({ frames := 12, cells := 0, slots := 0, locals := 195 } : Room) D sz σ [.ref a0, iv (x1)] (.returned (some (iv w.1))) (w.2) 0 0 := by
  refine Mt.of (by decide +kernel) (Nat.le_of_ble_eq_true rfl) ?_
  intro Γ X hr hnl hini hnoh
  have X : Cx Γ cX1_next "DayBoy" _ := X
  have hL : ∀ i, i < 4 → i < nLc Γ := fun i q => by rw [hnl]; exact q
  show V Γ σ 0 0 0 [(0, .ref (a0)), (1, iv (x1))] []
  unfold f_X1_next at h
  obtain ⟨ho0, h⟩ := cO_some h
  refine r_aload_n X 0 dX1_next_0 rfl rfl ?_
  refine r_getI (kf := 20) X ho0.1 rfl (by decide) rfl (Or.inl q327) dX1_next_1 ?_
  refine r_if_eq (tgt := 15) X dX1_next_4 (by decide) h (fun c1 h => ?_) (fun c1 h => ?_)
  · refine r_iconst X dX1_next_15 ?_
    cases h
    exact r_iret X hr dX1_next_16
  · refine r_aload_n X 0 dX1_next_7 rfl rfl ?_
    refine r_iload_n X 1 dX1_next_8 rfl rfl ?_
    obtain ⟨r3, h2, h⟩ := bd_some h
    refine r_cV (Wd := 0) X (fun l D sz => w_X1_areHeads l D sz h2) ho0.1 rfl q1046 qs35 q1044 q104 q1047 hy_X1_areHeads rfl dX1_next_9 rfl rfl (Nat.le_of_ble_eq_true rfl) ⟨Nat.le_of_ble_eq_true rfl, Nat.le_of_ble_eq_true rfl⟩ ⟨Nat.le_of_ble_eq_true rfl, Nat.le_of_ble_eq_true rfl⟩ ?_
    refine r_if_ne (tgt := 17) X dX1_next_12 (by decide) h (fun c4 h => ?_) (fun c4 h => ?_)
    · refine r_iconst X dX1_next_15 ?_
      cases h
      exact r_iret X hr dX1_next_16
    · refine r_iconst X dX1_next_17 ?_
      refine r_istore_n X dX1_next_18 rfl (hL 2 (by decide)) (lv' := [(2, iv (0)), (0, .ref (a0)), (1, iv (x1))]) rfl ?_
      refine r_iconst X dX1_next_19 ?_
      refine r_istore_n X dX1_next_20 rfl (hL 3 (by decide)) (lv' := [(3, iv (1)), (2, iv (0)), (0, .ref (a0)), (1, iv (x1))]) rfl ?_
      have L21 : ∀ s : Int × Int × St, lp (fun s => f_X1_next_b21 (a0) (x1) s.1 s.2.1 s.2.2) s = some w → V Γ (s.2.2) 0 0 21 [(0, .ref (a0)), (1, iv (x1)), (2, iv (s.1)), (3, iv (s.2.1))] [] := by
        refine lp_rule (P := fun s : Int × Int × St => V Γ (s.2.2) 0 0 21 [(0, .ref (a0)), (1, iv (x1)), (2, iv (s.1)), (3, iv (s.2.1))] []) ?_
        intro s z1 h ihb1 ihe1
        obtain ⟨v2_1, v3_1, σ_1⟩ := s
        have h : f_X1_next_b21 (a0) (x1) v2_1 v3_1 σ_1 = some z1 := h
        unfold f_X1_next_b21 at h
        show V Γ σ_1 0 0 21 [(0, .ref (a0)), (1, iv (x1)), (2, iv (v2_1)), (3, iv (v3_1))] []
        refine r_iload_n X 3 dX1_next_21 rfl rfl ?_
        refine r_aload_n X 0 dX1_next_22 rfl rfl ?_
        obtain ⟨ho5, h⟩ := cO_some h
        refine r_getI (kf := 20) X ho5.1 rfl (by decide) rfl (Or.inl q327) dX1_next_23 ?_
        refine r_icmp_ge (tgt := 52) X dX1_next_26 (by decide) h (fun c6 h => ?_) (fun c6 h => ?_)
        · refine r_aload_n X 0 dX1_next_29 rfl rfl ?_
          refine r_iload_n X 3 dX1_next_30 rfl rfl ?_
          refine r_iload_n X 1 dX1_next_31 rfl rfl ?_
          obtain ⟨r8, σ9, h7, h⟩ := bd2_some h
          refine r_cV (Wd := 0) X (fun l D sz => w_X1_partedBy l D sz h7) ho5.1 rfl q1050 qs36 q1048 q104 q1051 hy_X1_partedBy rfl dX1_next_32 rfl rfl (Nat.le_of_ble_eq_true rfl) ⟨Nat.le_of_ble_eq_true rfl, Nat.le_of_ble_eq_true rfl⟩ ⟨Nat.le_of_ble_eq_true rfl, Nat.le_of_ble_eq_true rfl⟩ ?_
          refine r_aload_n X 0 dX1_next_35 rfl rfl ?_
          refine r_iload_n X 2 dX1_next_36 rfl rfl ?_
          refine r_iload_n X 1 dX1_next_37 rfl rfl ?_
          obtain ⟨ho11, h⟩ := cO_some h
          obtain ⟨r12, σ13, h10, h⟩ := bd2_some h
          refine r_cV (Wd := 1) X (fun l D sz => w_X1_partedBy l D sz h10) ho11.1 rfl q1050 qs36 q1048 q104 q1051 hy_X1_partedBy rfl dX1_next_38 rfl rfl (Nat.le_of_ble_eq_true rfl) ⟨Nat.le_of_ble_eq_true rfl, Nat.le_of_ble_eq_true rfl⟩ ⟨Nat.le_of_ble_eq_true rfl, Nat.le_of_ble_eq_true rfl⟩ ?_
          refine r_icmp_le (tgt := 46) X dX1_next_41 (by decide) h (fun c14 h => ?_) (fun c14 h => ?_)
          · refine r_iload_n X 3 dX1_next_44 rfl rfl ?_
            refine r_istore_n X dX1_next_45 rfl (hL 2 (by decide)) (lv' := [(2, iv (v3_1)), (0, .ref (a0)), (1, iv (x1)), (3, iv (v3_1))]) rfl ?_
            refine r_iinc X 3 dX1_next_46 rfl (hL 3 (by decide)) (lv' := [(3, iv ((v3_1 + 1))), (2, iv (v3_1)), (0, .ref (a0)), (1, iv (x1))]) rfl ?_
            refine r_goto (tgt := 21) X dX1_next_49 (by decide) ?_
            exact V.sub [2, 3, 1, 0] rfl (ihb1 _ (Option.some.inj h).symm)
          · refine r_iinc X 3 dX1_next_46 rfl (hL 3 (by decide)) (lv' := [(3, iv ((v3_1 + 1))), (0, .ref (a0)), (1, iv (x1)), (2, iv (v2_1))]) rfl ?_
            refine r_goto (tgt := 21) X dX1_next_49 (by decide) ?_
            exact V.sub [1, 2, 3, 0] rfl (ihb1 _ (Option.some.inj h).symm)
        · have h := ex_some h ihe1
          refine r_iload_n X 2 dX1_next_52 rfl rfl ?_
          cases h
          exact r_iret X hr dX1_next_53
      exact V.sub [2, 3, 1, 0] rfl (L21 (0, 1, σ) h)
theorem hy_X1_part : yX1_part.cls ≠ "java/lang/invoke/MethodHandle" ∧ yX1_part.cls ≠ "java/lang/invoke/VarHandle" ∧ (parseMethodDescriptor yX1_part.desc).map (fun d => d.parameters.length) = some 5 := by decide +kernel
set_option maxHeartbeats 4000000 in
theorem w_X1_part (l : Launch) (D : DD) (sz : Nat) {σ : St} {a0 : Nat} {x1 : Int} {x2 : Int} {x3 : Int} {x4 : Int} {x5 : Int} {w : Int × St} (h : f_X1_part σ a0 x1 x2 x3 x4 x5 = some w) : Mt l yX1_part cX1_part 10 (some FieldType.int) ({ frames := 11, cells := 0, slots := 0, locals := 176 } : Room) D sz σ [.ref a0, iv (x1), iv (x2), iv (x3), iv (x4), iv (x5)] (.returned (some (iv w.1))) (w.2) 0 0 := by
  refine Mt.of (by decide +kernel) (Nat.le_of_ble_eq_true rfl) ?_
  intro Γ X hr hnl hini hnoh
  have X : Cx Γ cX1_part "DayBoy" _ := X
  have hL : ∀ i, i < 10 → i < nLc Γ := fun i q => by rw [hnl]; exact q
  show V Γ σ 0 0 0 [(0, .ref (a0)), (1, iv (x1)), (2, iv (x2)), (3, iv (x3)), (4, iv (x4)), (5, iv (x5))] []
  unfold f_X1_part at h
  obtain ⟨ho0, h⟩ := cO_some h
  refine r_aload_n X 0 dX1_part_0 rfl rfl ?_
  refine r_iload_n X 1 dX1_part_1 rfl rfl ?_
  obtain ⟨r2, h1, h⟩ := bd_some h
  refine r_cV (Wd := 0) X (fun l D sz => w_X1_isHead l D sz h1) ho0.1 rfl q852 qs27 q850 q104 q853 hy_X1_isHead rfl dX1_part_2 rfl rfl (Nat.le_of_ble_eq_true rfl) ⟨Nat.le_of_ble_eq_true rfl, Nat.le_of_ble_eq_true rfl⟩ ⟨Nat.le_of_ble_eq_true rfl, Nat.le_of_ble_eq_true rfl⟩ ?_
  refine r_if_eq (tgt := 45) X dX1_part_5 (by decide) h (fun c3 h => ?_) (fun c3 h => ?_)
  · refine r_iconst X dX1_part_45 ?_
    cases h
    exact r_iret X hr dX1_part_46
  · refine r_aload_n X 0 dX1_part_8 rfl rfl ?_
    refine r_iload_n X 2 dX1_part_9 rfl rfl ?_
    obtain ⟨r5, h4, h⟩ := bd_some h
    refine r_cV (Wd := 0) X (fun l D sz => w_X1_isHead l D sz h4) ho0.1 rfl q852 qs27 q850 q104 q853 hy_X1_isHead rfl dX1_part_10 rfl rfl (Nat.le_of_ble_eq_true rfl) ⟨Nat.le_of_ble_eq_true rfl, Nat.le_of_ble_eq_true rfl⟩ ⟨Nat.le_of_ble_eq_true rfl, Nat.le_of_ble_eq_true rfl⟩ ?_
    refine r_if_eq (tgt := 45) X dX1_part_13 (by decide) h (fun c6 h => ?_) (fun c6 h => ?_)
    · refine r_iconst X dX1_part_45 ?_
      cases h
      exact r_iret X hr dX1_part_46
    · refine r_aload_n X 0 dX1_part_16 rfl rfl ?_
      refine r_iload_n X 3 dX1_part_17 rfl rfl ?_
      obtain ⟨r8, h7, h⟩ := bd_some h
      refine r_cV (Wd := 0) X (fun l D sz => w_X1_isCalendar l D sz h7) ho0.1 rfl q751 qs22 q749 q104 q752 hy_X1_isCalendar rfl dX1_part_18 rfl rfl (Nat.le_of_ble_eq_true rfl) ⟨Nat.le_of_ble_eq_true rfl, Nat.le_of_ble_eq_true rfl⟩ ⟨Nat.le_of_ble_eq_true rfl, Nat.le_of_ble_eq_true rfl⟩ ?_
      refine r_if_eq (tgt := 45) X dX1_part_21 (by decide) h (fun c9 h => ?_) (fun c9 h => ?_)
      · refine r_iconst X dX1_part_45 ?_
        cases h
        exact r_iret X hr dX1_part_46
      · refine r_iload X 4 dX1_part_24 rfl ?_
        obtain ⟨r11, h10, h⟩ := bd_some h
        refine r_cS (Wd := 0) X (fun l D sz => w_X1_isYear l D sz h10) q820 q819 q104 q821 hy_X1_isYear rfl dX1_part_26 rfl rfl (Nat.le_of_ble_eq_true rfl) ⟨Nat.le_of_ble_eq_true rfl, Nat.le_of_ble_eq_true rfl⟩ ⟨Nat.le_of_ble_eq_true rfl, Nat.le_of_ble_eq_true rfl⟩ ?_
        refine r_if_eq (tgt := 45) X dX1_part_29 (by decide) h (fun c12 h => ?_) (fun c12 h => ?_)
        · refine r_iconst X dX1_part_45 ?_
          cases h
          exact r_iret X hr dX1_part_46
        · refine r_iload X 5 dX1_part_32 rfl ?_
          obtain ⟨c13, h⟩ := ck_some h
          refine r_i2l X dX1_part_34 c13 ?_
          refine r_lconst (y := 1) X dX1_part_35 rfl ?_
          refine r_ldc2 (z := 20) X q1067 dX1_part_36 rfl ?_
          obtain ⟨r15, h14, h⟩ := bd_some h
          refine r_cS (Wd := 0) X (fun l D sz => w_X1_isIn l D sz h14) q414 q413 q104 q415 hy_X1_isIn rfl dX1_part_39 rfl rfl (Nat.le_of_ble_eq_true rfl) ⟨Nat.le_of_ble_eq_true rfl, Nat.le_of_ble_eq_true rfl⟩ ⟨Nat.le_of_ble_eq_true rfl, Nat.le_of_ble_eq_true rfl⟩ ?_
          refine r_if_ne (tgt := 47) X dX1_part_42 (by decide) h (fun c16 h => ?_) (fun c16 h => ?_)
          · refine r_iconst X dX1_part_45 ?_
            cases h
            exact r_iret X hr dX1_part_46
          · refine r_aload_n X 0 dX1_part_47 rfl rfl ?_
            refine r_getA (kf := 4) X ho0.1 rfl (by decide) (by decide) (Or.inl q310) dX1_part_48 ?_
            refine r_iload_n X 3 dX1_part_51 rfl rfl ?_
            refine r_aald X ho0.1 (ho0.2 4 (by decide)) rfl rfl (by decide) rfl (by decide) dX1_part_52 h (fun b17 h => ?_)
            refine r_astore X dX1_part_53 (hL 6 (by decide)) (lv' := [(6, .ref (b17)), (0, .ref (a0)), (1, iv (x1)), (2, iv (x2)), (3, iv (x3)), (4, iv (x4)), (5, iv (x5))]) rfl ?_
            refine r_iload X 5 dX1_part_55 rfl ?_
            refine r_istore X dX1_part_57 (hL 7 (by decide)) (lv' := [(7, iv (x4)), (6, .ref (b17)), (0, .ref (a0)), (1, iv (x1)), (2, iv (x2)), (3, iv (x3)), (4, iv (x4)), (5, iv (x5))]) rfl ?_
            have L59 : ∀ s : Int × St, lp (fun s => f_X1_part_b59 (a0) (x1) (x2) (x4) (x5) (b17) s.1 s.2) s = some w → V Γ (s.2) 0 0 59 [(0, .ref (a0)), (1, iv (x1)), (2, iv (x2)), (4, iv (x4)), (5, iv (x5)), (6, .ref (b17)), (7, iv (s.1))] [] := by
              refine lp_rule (P := fun s : Int × St => V Γ (s.2) 0 0 59 [(0, .ref (a0)), (1, iv (x1)), (2, iv (x2)), (4, iv (x4)), (5, iv (x5)), (6, .ref (b17)), (7, iv (s.1))] []) ?_
              intro s z1 h ihb1 ihe1
              obtain ⟨v7_1, σ_1⟩ := s
              have h : f_X1_part_b59 (a0) (x1) (x2) (x4) (x5) (b17) v7_1 σ_1 = some z1 := h
              unfold f_X1_part_b59 at h
              show V Γ σ_1 0 0 59 [(0, .ref (a0)), (1, iv (x1)), (2, iv (x2)), (4, iv (x4)), (5, iv (x5)), (6, .ref (b17)), (7, iv (v7_1))] []
              refine r_iload X 6 dX1_part_59 rfl ?_
              refine r_iload X 3 dX1_part_61 rfl ?_
              refine r_iload X 4 dX1_part_63 rfl ?_
              refine r_iadd X dX1_part_65 ?_
              refine r_icmp_ge (tgt := 160) X dX1_part_66 (by decide) h (fun c18 h => ?_) (fun c18 h => ?_)
              · refine r_iconst X dX1_part_69 ?_
                refine r_istore X dX1_part_70 (hL 8 (by decide)) (lv' := [(8, iv (1)), (0, .ref (a0)), (1, iv (x1)), (2, iv (x2)), (4, iv (x4)), (5, iv (x5)), (6, .ref (b17)), (7, iv (v7_1))]) rfl ?_
                have L72 : ∀ s : Int × St, lp (fun s => f_X1_part_b72 (a0) (x1) (x2) (x4) (x5) (b17) (v7_1) s.1 s.2) s = some z1 → V Γ (s.2) 0 0 72 [(0, .ref (a0)), (1, iv (x1)), (2, iv (x2)), (4, iv (x4)), (5, iv (x5)), (6, .ref (b17)), (7, iv (v7_1)), (8, iv (s.1))] [] := by
                  refine lp_rule (P := fun s : Int × St => V Γ (s.2) 0 0 72 [(0, .ref (a0)), (1, iv (x1)), (2, iv (x2)), (4, iv (x4)), (5, iv (x5)), (6, .ref (b17)), (7, iv (v7_1)), (8, iv (s.1))] []) ?_
                  intro s z2 h ihb2 ihe2
                  obtain ⟨v8_2, σ_2⟩ := s
                  have h : f_X1_part_b72 (a0) (x1) (x2) (x4) (x5) (b17) (v7_1) v8_2 σ_2 = some z2 := h
                  unfold f_X1_part_b72 at h
                  show V Γ σ_2 0 0 72 [(0, .ref (a0)), (1, iv (x1)), (2, iv (x2)), (4, iv (x4)), (5, iv (x5)), (6, .ref (b17)), (7, iv (v7_1)), (8, iv (v8_2))] []
                  refine r_iload X 7 dX1_part_72 rfl ?_
                  refine r_bipush X dX1_part_74 (by decide) ?_
                  refine r_icmp_ge (tgt := 154) X dX1_part_76 (by decide) h (fun c19 h => ?_) (fun c19 h => ?_)
                  · refine r_iconst X dX1_part_79 ?_
                    refine r_istore X dX1_part_80 (hL 9 (by decide)) (lv' := [(9, iv (1)), (0, .ref (a0)), (1, iv (x1)), (2, iv (x2)), (4, iv (x4)), (5, iv (x5)), (6, .ref (b17)), (7, iv (v7_1)), (8, iv (v8_2))]) rfl ?_
                    have L82 : ∀ s : Int × St, lp (fun s => f_X1_part_b82 (a0) (x1) (x2) (x4) (x5) (b17) (v7_1) (v8_2) s.1 s.2) s = some z2 → V Γ (s.2) 0 0 82 [(0, .ref (a0)), (1, iv (x1)), (2, iv (x2)), (4, iv (x4)), (5, iv (x5)), (6, .ref (b17)), (7, iv (v7_1)), (8, iv (v8_2)), (9, iv (s.1))] [] := by
                      refine lp_rule (P := fun s : Int × St => V Γ (s.2) 0 0 82 [(0, .ref (a0)), (1, iv (x1)), (2, iv (x2)), (4, iv (x4)), (5, iv (x5)), (6, .ref (b17)), (7, iv (v7_1)), (8, iv (v8_2)), (9, iv (s.1))] []) ?_
                      intro s z3 h ihb3 ihe3
                      obtain ⟨v9_3, σ_3⟩ := s
                      have h : f_X1_part_b82 (a0) (x1) (x2) (x4) (x5) (b17) (v7_1) (v8_2) v9_3 σ_3 = some z3 := h
                      unfold f_X1_part_b82 at h
                      show V Γ σ_3 0 0 82 [(0, .ref (a0)), (1, iv (x1)), (2, iv (x2)), (4, iv (x4)), (5, iv (x5)), (6, .ref (b17)), (7, iv (v7_1)), (8, iv (v8_2)), (9, iv (v9_3))] []
                      refine r_iload X 8 dX1_part_82 rfl ?_
                      refine r_bipush X dX1_part_84 (by decide) ?_
                      refine r_icmp_ge (tgt := 148) X dX1_part_86 (by decide) h (fun c20 h => ?_) (fun c20 h => ?_)
                      · refine r_aload X 5 dX1_part_89 rfl ?_
                        refine r_iload X 6 dX1_part_91 rfl ?_
                        refine r_iload X 7 dX1_part_93 rfl ?_
                        refine r_iload X 8 dX1_part_95 rfl ?_
                        obtain ⟨ho22, h⟩ := cO_some h
                        obtain ⟨r23, h21, h⟩ := bd_some h
                        refine r_cV (Wd := 0) X (fun l D sz => w_X2_has l D sz h21) ho22.1 rfl q793 q794 q792 q105 q795 hy_X2_has rfl dX1_part_97 rfl rfl (Nat.le_of_ble_eq_true rfl) ⟨Nat.le_of_ble_eq_true rfl, Nat.le_of_ble_eq_true rfl⟩ ⟨Nat.le_of_ble_eq_true rfl, Nat.le_of_ble_eq_true rfl⟩ ?_
                        refine r_if_eq (tgt := 142) X dX1_part_100 (by decide) h (fun c24 h => ?_) (fun c24 h => ?_)
                        · refine r_iinc X 8 dX1_part_142 rfl (hL 9 (by decide)) (lv' := [(9, iv ((v9_3 + 1))), (0, .ref (a0)), (1, iv (x1)), (2, iv (x2)), (4, iv (x4)), (5, iv (x5)), (6, .ref (b17)), (7, iv (v7_1)), (8, iv (v8_2))]) rfl ?_
                          refine r_goto (tgt := 82) X dX1_part_145 (by decide) ?_
                          exact V.sub [1, 2, 3, 4, 5, 6, 7, 8, 0] rfl (ihb3 _ (Option.some.inj h).symm)
                        · refine r_aload_n X 0 dX1_part_103 rfl rfl ?_
                          refine r_aload_n X 0 dX1_part_104 rfl rfl ?_
                          obtain ⟨ho25, h⟩ := cO_some h
                          refine r_getA (kf := 5) X ho25.1 rfl (by decide) (by decide) (Or.inl q311) dX1_part_105 ?_
                          refine r_iload_n X 1 dX1_part_108 rfl rfl ?_
                          refine r_aald X ho25.1 (ho25.2 5 (by decide)) rfl rfl (by decide) rfl (by decide) dX1_part_109 h (fun b26 h => ?_)
                          refine r_aload_n X 0 dX1_part_110 rfl rfl ?_
                          refine r_getA (kf := 5) X ho25.1 rfl (by decide) (by decide) (Or.inl q311) dX1_part_111 ?_
                          refine r_iload_n X 2 dX1_part_114 rfl rfl ?_
                          refine r_aald X ho25.1 (ho25.2 5 (by decide)) rfl rfl (by decide) rfl (by decide) dX1_part_115 h (fun b27 h => ?_)
                          refine r_aload X 5 dX1_part_116 rfl ?_
                          refine r_iload X 6 dX1_part_118 rfl ?_
                          refine r_iload X 7 dX1_part_120 rfl ?_
                          refine r_iload X 8 dX1_part_122 rfl ?_
                          obtain ⟨r29, σ30, h28, h⟩ := bd2_some h
                          refine r_cV (Wd := 0) X (fun l D sz => w_X1_partsAt l D sz h28) ho25.1 rfl q1054 qs37 q1052 q104 q1055 hy_X1_partsAt rfl dX1_part_124 rfl rfl (Nat.le_of_ble_eq_true rfl) ⟨Nat.le_of_ble_eq_true rfl, Nat.le_of_ble_eq_true rfl⟩ ⟨Nat.le_of_ble_eq_true rfl, Nat.le_of_ble_eq_true rfl⟩ ?_
                          refine r_if_eq (tgt := 142) X dX1_part_127 (by decide) h (fun c31 h => ?_) (fun c31 h => ?_)
                          · refine r_iinc X 8 dX1_part_142 rfl (hL 9 (by decide)) (lv' := [(9, iv ((v9_3 + 1))), (0, .ref (a0)), (1, iv (x1)), (2, iv (x2)), (4, iv (x4)), (5, iv (x5)), (6, .ref (b17)), (7, iv (v7_1)), (8, iv (v8_2))]) rfl ?_
                            refine r_goto (tgt := 82) X dX1_part_145 (by decide) ?_
                            exact V.sub [1, 2, 3, 4, 5, 6, 7, 8, 0] rfl (ihb3 _ (Option.some.inj h).symm)
                          · have h := ex_some h ihe3
                            have h := ex_some h ihe2
                            have h := ex_some h ihe1
                            refine r_aload X 5 dX1_part_130 rfl ?_
                            refine r_iload X 6 dX1_part_132 rfl ?_
                            refine r_iload X 7 dX1_part_134 rfl ?_
                            refine r_iload X 8 dX1_part_136 rfl ?_
                            obtain ⟨ho33, h⟩ := cO_some h
                            obtain ⟨r34, h32, h⟩ := bd_some h
                            refine r_cV (Wd := 0) X (fun l D sz => w_X2_day l D sz h32) ho33.1 rfl q811 q812 q810 q105 q813 hy_X2_day rfl dX1_part_138 rfl rfl (Nat.le_of_ble_eq_true rfl) ⟨Nat.le_of_ble_eq_true rfl, Nat.le_of_ble_eq_true rfl⟩ ⟨Nat.le_of_ble_eq_true rfl, Nat.le_of_ble_eq_true rfl⟩ ?_
                            cases h
                            exact r_iret X hr dX1_part_141
                      · have h := ex_some h ihe3
                        refine r_iinc X 7 dX1_part_148 rfl (hL 8 (by decide)) (lv' := [(8, iv ((v8_2 + 1))), (0, .ref (a0)), (1, iv (x1)), (2, iv (x2)), (4, iv (x4)), (5, iv (x5)), (6, .ref (b17)), (7, iv (v7_1)), (9, iv (v9_3))]) rfl ?_
                        refine r_goto (tgt := 72) X dX1_part_151 (by decide) ?_
                        exact V.sub [1, 2, 3, 4, 5, 6, 7, 0] rfl (ihb2 _ (Option.some.inj h).symm)
                    exact V.sub [1, 2, 3, 4, 5, 6, 7, 8, 0] rfl (L82 (1, σ_2) h)
                  · have h := ex_some h ihe2
                    refine r_iinc X 6 dX1_part_154 rfl (hL 7 (by decide)) (lv' := [(7, iv ((v7_1 + 1))), (0, .ref (a0)), (1, iv (x1)), (2, iv (x2)), (4, iv (x4)), (5, iv (x5)), (6, .ref (b17)), (8, iv (v8_2))]) rfl ?_
                    refine r_goto (tgt := 59) X dX1_part_157 (by decide) ?_
                    exact V.sub [1, 2, 3, 4, 5, 6, 0] rfl (ihb1 _ (Option.some.inj h).symm)
                exact V.sub [1, 2, 3, 4, 5, 6, 7, 0] rfl (L72 (1, σ_1) h)
              · have h := ex_some h ihe1
                refine r_iconst X dX1_part_160 ?_
                cases h
                exact r_iret X hr dX1_part_161
            exact V.sub [2, 3, 4, 6, 7, 1, 0] rfl (L59 (x4, σ) h)
theorem hy_X5_empty : yX5_empty.cls ≠ "java/lang/invoke/MethodHandle" ∧ yX5_empty.cls ≠ "java/lang/invoke/VarHandle" ∧ (parseMethodDescriptor yX5_empty.desc).map (fun d => d.parameters.length) = some 0 := by decide +kernel
set_option maxHeartbeats 4000000 in
theorem w_X5_empty (l : Launch) (D : DD) (sz : Nat) {σ : St} {a0 : Nat} {w : St} (h : f_X5_empty σ a0 = some w) : Mt l yX5_empty cX5_empty 2 none ({ frames := 0, cells := 0, slots := 0, locals := 0 } : Room) D sz σ [.ref a0] (.returned none) (w) 0 0 := by
  refine Mt.of (by decide +kernel) (Nat.le_of_ble_eq_true rfl) ?_
  intro Γ X hr hnl hini hnoh
  have X : Cx Γ cX5_empty "DayBoy$Head" _ := X
  have hL : ∀ i, i < 2 → i < nLc Γ := fun i q => by rw [hnl]; exact q
  show V Γ σ 0 0 0 [(0, .ref (a0))] []
  unfold f_X5_empty at h
  obtain ⟨ho0, h⟩ := cO_some h
  refine r_aload_n X 0 dX5_empty_0 rfl rfl ?_
  refine r_iconst X dX5_empty_1 ?_
  refine r_putI (kf := 13) X ho0.1 rfl (by decide) rfl rfl (Or.inl q235) dX5_empty_2 rfl ?_
  refine r_let h (fun σ1 eσ1 h => ?_)
  refine r_aload_n X 0 dX5_empty_5 rfl rfl ?_
  refine r_iconst X dX5_empty_6 ?_
  have hk2 : oc σ1 (a0) 4 := by rw [eσ1]; exact ho0
  refine r_putI (kf := 14) X hk2.1 rfl (by decide) rfl rfl (Or.inl q238) dX5_empty_7 rfl ?_
  refine r_let h (fun σ3 eσ3 h => ?_)
  refine r_aload_n X 0 dX5_empty_10 rfl rfl ?_
  refine r_iconst X dX5_empty_11 ?_
  have hk4 : oc σ3 (a0) 4 := by rw [eσ3]; exact hk2
  refine r_putI (kf := 15) X hk4.1 rfl (by decide) rfl rfl (Or.inl q242) dX5_empty_12 rfl ?_
  refine r_let h (fun σ5 eσ5 h => ?_)
  refine r_iconst X dX5_empty_15 ?_
  refine r_istore_n X dX5_empty_16 rfl (hL 1 (by decide)) (lv' := [(1, iv (0)), (0, .ref (a0))]) rfl ?_
  have L17 : ∀ s : Int × St, lp (fun s => f_X5_empty_b17 (a0) s.1 s.2) s = some w → V Γ (s.2) 0 0 17 [(0, .ref (a0)), (1, iv (s.1))] [] := by
    refine lp_rule (P := fun s : Int × St => V Γ (s.2) 0 0 17 [(0, .ref (a0)), (1, iv (s.1))] []) ?_
    intro s z1 h ihb1 ihe1
    obtain ⟨v1_1, σ_1⟩ := s
    have h : f_X5_empty_b17 (a0) v1_1 σ_1 = some z1 := h
    unfold f_X5_empty_b17 at h
    show V Γ σ_1 0 0 17 [(0, .ref (a0)), (1, iv (v1_1))] []
    refine r_iload_n X 1 dX5_empty_17 rfl rfl ?_
    refine r_iconst X dX5_empty_18 ?_
    refine r_icmp_ge (tgt := 35) X dX5_empty_19 (by decide) h (fun c6 h => ?_) (fun c6 h => ?_)
    · refine r_aload_n X 0 dX5_empty_22 rfl rfl ?_
      obtain ⟨ho7, h⟩ := cO_some h
      refine r_getA (kf := 7) X ho7.1 rfl (by decide) (by decide) (Or.inl q222) dX5_empty_23 ?_
      refine r_iload_n X 1 dX5_empty_26 rfl rfl ?_
      refine r_iconst X dX5_empty_27 ?_
      refine r_iast X ho7.1 (ho7.2 7 (by decide)) rfl rfl rfl (by decide) dX5_empty_28 h (fun h => ?_)
      refine r_let h (fun σ8 eσ8 h => ?_)
      refine r_iinc X 1 dX5_empty_29 rfl (hL 1 (by decide)) (lv' := [(1, iv ((v1_1 + 1))), (0, .ref (a0))]) rfl ?_
      refine r_goto (tgt := 17) X dX5_empty_32 (by decide) ?_
      exact V.sub [1, 0] rfl (ihb1 _ (Option.some.inj h).symm)
    · have h := ex_some h ihe1
      refine r_iconst X dX5_empty_35 ?_
      refine r_istore_n X dX5_empty_36 rfl (hL 1 (by decide)) (lv' := [(1, iv (0)), (0, .ref (a0))]) rfl ?_
      have L37 : ∀ s : Int × St, lp (fun s => f_X5_empty_b37 (a0) s.1 s.2) s = some w → V Γ (s.2) 0 0 37 [(0, .ref (a0)), (1, iv (s.1))] [] := by
        refine lp_rule (P := fun s : Int × St => V Γ (s.2) 0 0 37 [(0, .ref (a0)), (1, iv (s.1))] []) ?_
        intro s z1 h ihb1 ihe1
        obtain ⟨v1_1, σ_1⟩ := s
        have h : f_X5_empty_b37 (a0) v1_1 σ_1 = some z1 := h
        unfold f_X5_empty_b37 at h
        show V Γ σ_1 0 0 37 [(0, .ref (a0)), (1, iv (v1_1))] []
        refine r_iload_n X 1 dX5_empty_37 rfl rfl ?_
        refine r_bipush X dX5_empty_38 (by decide) ?_
        refine r_icmp_ge (tgt := 56) X dX5_empty_40 (by decide) h (fun c9 h => ?_) (fun c9 h => ?_)
        · refine r_aload_n X 0 dX5_empty_43 rfl rfl ?_
          obtain ⟨ho10, h⟩ := cO_some h
          refine r_getA (kf := 8) X ho10.1 rfl (by decide) (by decide) (Or.inl q225) dX5_empty_44 ?_
          refine r_iload_n X 1 dX5_empty_47 rfl rfl ?_
          refine r_iconst X dX5_empty_48 ?_
          refine r_zast X ho10.1 (ho10.2 8 (by decide)) rfl rfl rfl (by decide) dX5_empty_49 h (fun h => ?_)
          refine r_let h (fun σ11 eσ11 h => ?_)
          refine r_iinc X 1 dX5_empty_50 rfl (hL 1 (by decide)) (lv' := [(1, iv ((v1_1 + 1))), (0, .ref (a0))]) rfl ?_
          refine r_goto (tgt := 37) X dX5_empty_53 (by decide) ?_
          exact V.sub [1, 0] rfl (ihb1 _ (Option.some.inj h).symm)
        · have h := ex_some h ihe1
          cases h
          exact r_vret X hr dX5_empty_56
      exact V.sub [1, 0] rfl (L37 (0, σ_1) h)
  exact V.sub [1, 0] rfl (L17 (0, σ5) h)
theorem hy_X9_init : yX9_init.cls ≠ "java/lang/invoke/MethodHandle" ∧ yX9_init.cls ≠ "java/lang/invoke/VarHandle" ∧ (parseMethodDescriptor yX9_init.desc).map (fun d => d.parameters.length) = some 0 := by decide +kernel
set_option maxHeartbeats 4000000 in
theorem w_X9_init (l : Launch) (D : DD) (sz : Nat) {σ : St} {a0 : Nat} {w : Unit} (h : f_X9_init σ a0 = some w) : Mt l yX9_init cX9_init 1 none ({ frames := 1, cells := 0, slots := 0, locals := 12 } : Room) D sz σ [.ref a0] (.returned none) (σ) 0 0 := by
  refine Mt.of (by decide +kernel) (Nat.le_of_ble_eq_true rfl) ?_
  intro Γ X hr hnl hini hnoh
  have X : Cx Γ cX9_init "DayBoy$Item" _ := X
  have hL : ∀ i, i < 1 → i < nLc Γ := fun i q => by rw [hnl]; exact q
  have hini := hini rfl
  show V Γ σ 0 0 0 [(0, .ref (a0))] []
  unfold f_X9_init at h
  refine r_aload_n X 0 dX9_init_0 rfl rfl ?_
  refine r_objInit X q620 q133 q134 dX9_init_1 (by decide) (Nat.le_of_ble_eq_true rfl) ?_
  cases h
  exact r_vret X hr dX9_init_4
theorem hy_X11_init : yX11_init.cls ≠ "java/lang/invoke/MethodHandle" ∧ yX11_init.cls ≠ "java/lang/invoke/VarHandle" ∧ (parseMethodDescriptor yX11_init.desc).map (fun d => d.parameters.length) = some 2 := by decide +kernel
set_option maxHeartbeats 4000000 in
theorem w_X11_init (l : Launch) (D : DD) (sz : Nat) {σ : St} {a0 : Nat} {x1 : Int} {x2 : Int} {w : St} (h : f_X11_init σ a0 x1 x2 = some w) : Mt l yX11_init cX11_init 3 none ({ frames := 2, cells := 0, slots := 0, locals := 24 } : Room) D sz σ [.ref a0, iv (x1), iv (x2)] (.returned none) (w) 0 0 := by
  refine Mt.of (by decide +kernel) (Nat.le_of_ble_eq_true rfl) ?_
  intro Γ X hr hnl hini hnoh
  have X : Cx Γ cX11_init "DayBoy$Step" _ := X
  have hL : ∀ i, i < 3 → i < nLc Γ := fun i q => by rw [hnl]; exact q
  have hini := hini rfl
  show V Γ σ 0 0 0 [(0, .ref (a0)), (1, iv (x1)), (2, iv (x2))] []
  unfold f_X11_init at h
  obtain ⟨hc0, h⟩ := ck_some h
  refine r_aload_n X 0 dX11_init_0 rfl rfl ?_
  obtain ⟨r2, h1, h⟩ := bd_some h
  refine r_cIN (Wd := 0) X (fun l D sz => w_X9_init l D sz h1) rfl rfl q618 q637 q116 q619 hy_X9_init rfl dX11_init_1 rfl rfl (Nat.le_of_ble_eq_true rfl) ⟨Nat.le_of_ble_eq_true rfl, Nat.le_of_ble_eq_true rfl⟩ ⟨Nat.le_of_ble_eq_true rfl, Nat.le_of_ble_eq_true rfl⟩ ?_
  refine r_aload_n X 0 dX11_init_4 rfl rfl ?_
  refine r_iload_n X 1 dX11_init_5 rfl rfl ?_
  refine r_putIF (kf := 0) X hini hc0 rfl (by decide) rfl rfl q638 rfl dX11_init_6 rfl ?_
  refine r_let h (fun σ3 eσ3 h => ?_)
  refine r_aload_n X 0 dX11_init_9 rfl rfl ?_
  refine r_iload_n X 2 dX11_init_10 rfl rfl ?_
  have hk4 : cL σ3 (a0) = some 9 := by rw [eσ3]; exact hc0
  refine r_putIF (kf := 1) X hini hk4 rfl (by decide) rfl rfl q639 rfl dX11_init_11 rfl ?_
  refine r_let h (fun σ5 eσ5 h => ?_)
  cases h
  exact r_vret X hr dX11_init_14
theorem hy_X11_joins : yX11_joins.cls ≠ "java/lang/invoke/MethodHandle" ∧ yX11_joins.cls ≠ "java/lang/invoke/VarHandle" ∧ (parseMethodDescriptor yX11_joins.desc).map (fun d => d.parameters.length) = some 1 := by decide +kernel
set_option maxHeartbeats 4000000 in
theorem w_X11_joins (l : Launch) (D : DD) (sz : Nat) {σ : St} {a0 : Nat} {p1 : Nat} {w : St} (h : f_X11_joins σ a0 p1 = some w) : Mt l yX11_joins cX11_joins 2 none ({ frames := 0, cells := 0, slots := 0, locals := 0 } : Room) D sz σ [.ref a0, .ref (p1)] (.returned none) (w) 0 0 := by
  refine Mt.of (by decide +kernel) (Nat.le_of_ble_eq_true rfl) ?_
  intro Γ X hr hnl hini hnoh
  have X : Cx Γ cX11_joins "DayBoy$Step" _ := X
  have hL : ∀ i, i < 2 → i < nLc Γ := fun i q => by rw [hnl]; exact q
  show V Γ σ 0 0 0 [(0, .ref (a0)), (1, .ref (p1))] []
  unfold f_X11_joins at h
  obtain ⟨ho0, h⟩ := cO_some h
  refine r_aload_n X 1 dX11_joins_0 rfl rfl ?_
  obtain ⟨ho1, h⟩ := cO_some h
  refine r_getA (kf := 2) X ho1.1 rfl (by decide) (by decide) (Or.inr ⟨_, q208⟩) dX11_joins_1 ?_
  refine r_aload_n X 1 dX11_joins_4 rfl rfl ?_
  refine r_getI (kf := 14) X ho1.1 rfl (by decide) rfl (Or.inr ⟨_, q237⟩) dX11_joins_5 ?_
  refine r_aload_n X 0 dX11_joins_8 rfl rfl ?_
  refine r_getI (kf := 0) X ho0.1 rfl (by decide) rfl (Or.inl q638) dX11_joins_9 ?_
  refine r_iast X ho1.1 (ho1.2 2 (by decide)) rfl rfl rfl (by decide) dX11_joins_12 h (fun h => ?_)
  refine r_let h (fun σ2 eσ2 h => ?_)
  refine r_aload_n X 1 dX11_joins_13 rfl rfl ?_
  have hk3 : oc σ2 (p1) 4 := by rw [eσ2]; exact ho1
  refine r_getA (kf := 3) X hk3.1 rfl (by decide) (by decide) (Or.inr ⟨_, q212⟩) dX11_joins_14 ?_
  refine r_aload_n X 1 dX11_joins_17 rfl rfl ?_
  refine r_getI (kf := 14) X hk3.1 rfl (by decide) rfl (Or.inr ⟨_, q237⟩) dX11_joins_18 ?_
  refine r_aload_n X 0 dX11_joins_21 rfl rfl ?_
  have hk4 : oc σ2 (a0) 9 := by rw [eσ2]; exact ho0
  refine r_getI (kf := 1) X hk4.1 rfl (by decide) rfl (Or.inl q639) dX11_joins_22 ?_
  refine r_iast X hk3.1 (hk3.2 3 (by decide)) rfl rfl rfl (by decide) dX11_joins_25 h (fun h => ?_)
  refine r_let h (fun σ5 eσ5 h => ?_)
  refine r_aload_n X 1 dX11_joins_26 rfl rfl ?_
  refine r_dup X dX11_joins_27 rfl ?_
  have hk6 : oc σ5 (p1) 4 := by rw [eσ5]; exact hk3
  refine r_getI (kf := 14) X hk6.1 rfl (by decide) rfl (Or.inr ⟨_, q237⟩) dX11_joins_28 ?_
  refine r_iconst X dX11_joins_31 ?_
  refine r_iadd X dX11_joins_32 ?_
  refine r_putI (kf := 14) X hk6.1 rfl (by decide) rfl rfl (Or.inr ⟨_, q237⟩) dX11_joins_33 rfl ?_
  refine r_let h (fun σ7 eσ7 h => ?_)
  cases h
  exact r_vret X hr dX11_joins_36
theorem hy_X1_layGets : yX1_layGets.cls ≠ "java/lang/invoke/MethodHandle" ∧ yX1_layGets.cls ≠ "java/lang/invoke/VarHandle" ∧ (parseMethodDescriptor yX1_layGets.desc).map (fun d => d.parameters.length) = some 3 := by decide +kernel
set_option maxHeartbeats 4000000 in
theorem w_X1_layGets (l : Launch) (D : DD) (sz : Nat) {σ : St} {a0 : Nat} {p1 : Nat} {x2 : Int} {x3 : Int} {w : St} (h : f_X1_layGets σ a0 p1 x2 x3 = some w) : Mt l yX1_layGets cX1_layGets 6 none ({ frames := 3, cells := 7, slots := 14, locals := 46 } : Room) D sz σ [.ref a0, .ref (p1), iv (x2), iv (x3)] (.returned none) (w) 6 12 := by
  refine Mt.of (by decide +kernel) (Nat.le_of_ble_eq_true rfl) ?_
  intro Γ X hr hnl hini hnoh
  have X : Cx Γ cX1_layGets "DayBoy" _ := X
  have hL : ∀ i, i < 6 → i < nLc Γ := fun i q => by rw [hnl]; exact q
  show V Γ σ 0 0 0 [(0, .ref (a0)), (1, .ref (p1)), (2, iv (x2)), (3, iv (x3))] []
  unfold f_X1_layGets at h
  obtain ⟨ho0, h⟩ := cO_some h
  refine r_aload_n X 0 dX1_layGets_0 rfl rfl ?_
  refine r_getP (kf := 22) X ho0.1 rfl (by decide) rfl (Or.inl q329) dX1_layGets_1 h (fun b1 h => ?_)
  obtain ⟨ho3, h⟩ := cO_some h
  obtain ⟨σ4, h2, h⟩ := bd_some h
  refine r_cV (Wd := 0) X (fun l D sz => w_X5_empty l D sz h2) ho3.1 rfl q601 q602 q1077 q108 q603 hy_X5_empty rfl dX1_layGets_4 rfl rfl (Nat.le_of_ble_eq_true rfl) ⟨Nat.le_of_ble_eq_true rfl, Nat.le_of_ble_eq_true rfl⟩ ⟨Nat.le_of_ble_eq_true rfl, Nat.le_of_ble_eq_true rfl⟩ ?_
  refine r_iconst X dX1_layGets_7 ?_
  refine r_istore X dX1_layGets_8 (hL 4 (by decide)) (lv' := [(4, iv (0)), (0, .ref (a0)), (1, .ref (p1)), (2, iv (x2)), (3, iv (x3))]) rfl ?_
  have L10 : ∀ s : Nat × Int × St, lp (fun s => f_X1_layGets_b10 (a0) (p1) (x2) (x3) s.1 s.2.1 s.2.2) s = some w → V Γ (s.2.2) (0 + (6 - s.1) * 1) (0 + (6 - s.1) * 2) 10 [(0, .ref (a0)), (1, .ref (p1)), (2, iv (x2)), (3, iv (x3)), (4, iv (s.2.1))] [] := by
    refine lp_rule (P := fun s : Nat × Int × St => V Γ (s.2.2) (0 + (6 - s.1) * 1) (0 + (6 - s.1) * 2) 10 [(0, .ref (a0)), (1, .ref (p1)), (2, iv (x2)), (3, iv (x3)), (4, iv (s.2.1))] []) ?_
    intro s z1 h ihb1 ihe1
    obtain ⟨cn, v4_1, σ_1⟩ := s
    have h : f_X1_layGets_b10 (a0) (p1) (x2) (x3) cn v4_1 σ_1 = some z1 := h
    unfold f_X1_layGets_b10 at h
    show V Γ σ_1 (0 + (6 - cn) * 1) (0 + (6 - cn) * 2) 10 [(0, .ref (a0)), (1, .ref (p1)), (2, iv (x2)), (3, iv (x3)), (4, iv (v4_1))] []
    obtain ⟨⟨hn1, hn2⟩, h⟩ := ck_some h
    refine r_iload X 4 dX1_layGets_10 rfl ?_
    refine r_aload_n X 1 dX1_layGets_12 rfl rfl ?_
    obtain ⟨ho5, h⟩ := cO_some h
    refine r_getI (kf := 14) X ho5.1 rfl (by decide) rfl (Or.inr ⟨_, q240⟩) dX1_layGets_13 ?_
    refine r_icmp_ge (tgt := 53) X dX1_layGets_16 (by decide) h (fun c6 h => ?_) (fun c6 h => ?_)
    · refine r_new (c := 9) (N := 2) X rfl rfl (by decide) q1078 q633 q118 dX1_layGets_19 (by show (0 + (6 - cn) * 1) + 1 ≤ 7; omega) (by show (0 + (6 - cn) * 2) + 2 ≤ 14; omega) ?_
      refine V.widen (k' := (1 + (6 - cn) * 1)) (n' := (2 + (6 - cn) * 2)) (by show _ ≤ _; omega) (by show _ ≤ _; omega) ?_
      refine r_let h (fun σ7 eσ7 h => ?_)
      have hk8 : cL σ7 (nX (σ_1)) = some 9 := by rw [eσ7, cL_nO, if_pos rfl]
      have ho9 : oc σ7 (nX (σ_1)) 9 := ⟨hk8, fun k hk => by cases hk⟩
      refine r_dup X dX1_layGets_22 rfl ?_
      refine r_aload_n X 1 dX1_layGets_23 rfl rfl ?_
      obtain ⟨ho10, h⟩ := cO_some h
      refine r_getA (kf := 2) X ho10.1 rfl (by decide) (by decide) (Or.inr ⟨_, q210⟩) dX1_layGets_24 ?_
      refine r_iload X 4 dX1_layGets_27 rfl ?_
      refine r_iald X ho10.1 (ho10.2 2 (by decide)) rfl rfl rfl (by decide) dX1_layGets_29 h (fun h => ?_)
      refine r_aload_n X 1 dX1_layGets_30 rfl rfl ?_
      refine r_getA (kf := 3) X ho10.1 rfl (by decide) (by decide) (Or.inr ⟨_, q213⟩) dX1_layGets_31 ?_
      refine r_iload X 4 dX1_layGets_34 rfl ?_
      refine r_iald X ho10.1 (ho10.2 3 (by decide)) rfl rfl rfl (by decide) dX1_layGets_36 h (fun h => ?_)
      obtain ⟨σ12, h11, h⟩ := bd_some h
      refine r_cI (Wd := 1) X (fun l D sz => w_X11_init l D sz h11) rfl rfl q635 q1079 q118 q636 hy_X11_init rfl dX1_layGets_37 rfl rfl (Nat.le_of_ble_eq_true rfl) ⟨Nat.le_of_ble_eq_true rfl, Nat.le_of_ble_eq_true rfl⟩ ⟨(by show (1 + (6 - cn) * 1) + 0 ≤ 7; omega), (by show (2 + (6 - cn) * 2) + 0 ≤ 14; omega)⟩ ?_
      refine r_aload_n X 0 dX1_layGets_40 rfl rfl ?_
      obtain ⟨ho13, h⟩ := cO_some h
      refine r_getP (kf := 22) X ho13.1 rfl (by decide) rfl (Or.inl q329) dX1_layGets_41 h (fun b14 h => ?_)
      obtain ⟨ho16, h⟩ := cO_some h
      obtain ⟨σ17, h15, h⟩ := bd_some h
      refine r_cV (Wd := 0) X (fun l D sz => w_X11_joins l D sz h15) ho16.1 rfl q708 q1911 q1080 q118 q709 hy_X11_joins rfl dX1_layGets_44 rfl rfl (Nat.le_of_ble_eq_true rfl) ⟨Nat.le_of_ble_eq_true rfl, Nat.le_of_ble_eq_true rfl⟩ ⟨(by show (1 + (6 - cn) * 1) + 0 ≤ 7; omega), (by show (2 + (6 - cn) * 2) + 0 ≤ 14; omega)⟩ ?_
      refine r_iinc X 4 dX1_layGets_47 rfl (hL 4 (by decide)) (lv' := [(4, iv ((v4_1 + 1))), (0, .ref (a0)), (1, .ref (p1)), (2, iv (x2)), (3, iv (x3))]) rfl ?_
      refine r_goto (tgt := 10) X dX1_layGets_50 (by decide) ?_
      exact V.widen (by show _ ≤ _; omega) (by show _ ≤ _; omega) <| V.sub [1, 2, 3, 4, 0] rfl (ihb1 _ (Option.some.inj h).symm)
    · have h := ex_some h ihe1
      refine V.widen (k' := 6) (n' := 12) (by show _ ≤ _; omega) (by show _ ≤ _; omega) ?_
      refine r_iconst X dX1_layGets_53 ?_
      refine r_istore X dX1_layGets_54 (hL 4 (by decide)) (lv' := [(4, iv (0)), (0, .ref (a0)), (1, .ref (p1)), (2, iv (x2)), (3, iv (x3))]) rfl ?_
      have L56 : ∀ s : Int × St, lp (fun s => f_X1_layGets_b56 (a0) (x2) (x3) s.1 s.2) s = some w → V Γ (s.2) 6 12 56 [(0, .ref (a0)), (2, iv (x2)), (3, iv (x3)), (4, iv (s.1))] [] := by
        refine lp_rule (P := fun s : Int × St => V Γ (s.2) 6 12 56 [(0, .ref (a0)), (2, iv (x2)), (3, iv (x3)), (4, iv (s.1))] []) ?_
        intro s z1 h ihb1 ihe1
        obtain ⟨v4_1, σ_1⟩ := s
        have h : f_X1_layGets_b56 (a0) (x2) (x3) v4_1 σ_1 = some z1 := h
        unfold f_X1_layGets_b56 at h
        show V Γ σ_1 6 12 56 [(0, .ref (a0)), (2, iv (x2)), (3, iv (x3)), (4, iv (v4_1))] []
        refine r_iload X 3 dX1_layGets_56 rfl ?_
        refine r_iload_n X 2 dX1_layGets_58 rfl rfl ?_
        refine r_icmp_ge (tgt := 145) X dX1_layGets_59 (by decide) h (fun c18 h => ?_) (fun c18 h => ?_)
        · refine r_aload_n X 0 dX1_layGets_62 rfl rfl ?_
          obtain ⟨ho19, h⟩ := cO_some h
          refine r_getP (kf := 22) X ho19.1 rfl (by decide) rfl (Or.inl q329) dX1_layGets_63 h (fun b20 h => ?_)
          obtain ⟨ho22, h⟩ := cO_some h
          obtain ⟨σ23, h21, h⟩ := bd_some h
          refine r_cVN (Wd := 0) X (fun l D sz => w_X5_clear l D sz h21) ho22.1 rfl q728 qs19 q1081 q108 q729 hy_X5_clear rfl dX1_layGets_66 rfl rfl (Nat.le_of_ble_eq_true rfl) ⟨Nat.le_of_ble_eq_true rfl, Nat.le_of_ble_eq_true rfl⟩ ⟨Nat.le_of_ble_eq_true rfl, Nat.le_of_ble_eq_true rfl⟩ ?_
          refine r_aload_n X 0 dX1_layGets_69 rfl rfl ?_
          obtain ⟨ho24, h⟩ := cO_some h
          refine r_getP (kf := 22) X ho24.1 rfl (by decide) rfl (Or.inl q329) dX1_layGets_70 h (fun b25 h => ?_)
          refine r_iload_n X 1 dX1_layGets_73 rfl rfl ?_
          refine r_iload X 3 dX1_layGets_74 rfl ?_
          refine r_iadd X dX1_layGets_76 ?_
          refine r_lconst (y := 0) X dX1_layGets_77 rfl ?_
          obtain ⟨ho27, h⟩ := cO_some h
          obtain ⟨σ28, h26, h⟩ := bd_some h
          refine r_cVN (Wd := 0) X (fun l D sz => w_X5_improve l D sz h26) ho27.1 rfl q733 qs20 q1082 q108 q734 hy_X5_improve rfl dX1_layGets_78 rfl rfl (Nat.le_of_ble_eq_true rfl) ⟨Nat.le_of_ble_eq_true rfl, Nat.le_of_ble_eq_true rfl⟩ ⟨Nat.le_of_ble_eq_true rfl, Nat.le_of_ble_eq_true rfl⟩ ?_
          refine r_aload_n X 0 dX1_layGets_81 rfl rfl ?_
          obtain ⟨ho29, h⟩ := cO_some h
          refine r_getP (kf := 22) X ho29.1 rfl (by decide) rfl (Or.inl q329) dX1_layGets_82 h (fun b30 h => ?_)
          obtain ⟨ho32, h⟩ := cO_some h
          obtain ⟨σ33, h31, h⟩ := bd_some h
          refine r_cVN (Wd := 0) X (fun l D sz => w_X5_spread l D sz h31) ho32.1 rfl q739 qs21 q1083 q108 q740 hy_X5_spread rfl dX1_layGets_85 rfl rfl (Nat.le_of_ble_eq_true rfl) ⟨Nat.le_of_ble_eq_true rfl, Nat.le_of_ble_eq_true rfl⟩ ⟨Nat.le_of_ble_eq_true rfl, Nat.le_of_ble_eq_true rfl⟩ ?_
          refine r_iconst X dX1_layGets_88 ?_
          refine r_istore X dX1_layGets_89 (hL 5 (by decide)) (lv' := [(5, iv (0)), (0, .ref (a0)), (2, iv (x2)), (3, iv (x3)), (4, iv (v4_1))]) rfl ?_
          have L91 : ∀ s : Int × St, lp (fun s => f_X1_layGets_b91 (a0) (x2) (x3) (v4_1) s.1 s.2) s = some z1 → V Γ (s.2) 6 12 91 [(0, .ref (a0)), (2, iv (x2)), (3, iv (x3)), (4, iv (v4_1)), (5, iv (s.1))] [] := by
            refine lp_rule (P := fun s : Int × St => V Γ (s.2) 6 12 91 [(0, .ref (a0)), (2, iv (x2)), (3, iv (x3)), (4, iv (v4_1)), (5, iv (s.1))] []) ?_
            intro s z2 h ihb2 ihe2
            obtain ⟨v5_2, σ_2⟩ := s
            have h : f_X1_layGets_b91 (a0) (x2) (x3) (v4_1) v5_2 σ_2 = some z2 := h
            unfold f_X1_layGets_b91 at h
            show V Γ σ_2 6 12 91 [(0, .ref (a0)), (2, iv (x2)), (3, iv (x3)), (4, iv (v4_1)), (5, iv (v5_2))] []
            refine r_iload X 4 dX1_layGets_91 rfl ?_
            refine r_iload_n X 2 dX1_layGets_93 rfl rfl ?_
            refine r_icmp_ge (tgt := 139) X dX1_layGets_94 (by decide) h (fun c34 h => ?_) (fun c34 h => ?_)
            · refine r_aload_n X 0 dX1_layGets_97 rfl rfl ?_
              obtain ⟨ho35, h⟩ := cO_some h
              refine r_getA (kf := 21) X ho35.1 rfl (by decide) (by decide) (Or.inl q328) dX1_layGets_98 ?_
              refine r_bipush X dX1_layGets_101 (by decide) ?_
              refine r_iload X 4 dX1_layGets_103 rfl ?_
              refine r_imul X dX1_layGets_105 ?_
              refine r_iload X 3 dX1_layGets_106 rfl ?_
              refine r_iadd X dX1_layGets_108 ?_
              refine r_ldc2 (z := 999900) X q1084 dX1_layGets_109 rfl ?_
              refine r_aload_n X 0 dX1_layGets_112 rfl rfl ?_
              refine r_getP (kf := 22) X ho35.1 rfl (by decide) rfl (Or.inl q329) dX1_layGets_113 h (fun b36 h => ?_)
              obtain ⟨ho37, h⟩ := cO_some h
              refine r_getA (kf := 9) X ho37.1 rfl (by decide) (by decide) (Or.inr ⟨_, q229⟩) dX1_layGets_116 ?_
              refine r_iload_n X 1 dX1_layGets_119 rfl rfl ?_
              refine r_iload X 4 dX1_layGets_120 rfl ?_
              refine r_iadd X dX1_layGets_122 ?_
              refine r_lald X ho37.1 (ho37.2 9 (by decide)) rfl rfl rfl (by decide) dX1_layGets_123 h (fun h => ?_)
              refine r_ldc2 (z := 20000) X q903 dX1_layGets_124 rfl ?_
              obtain ⟨c38, h⟩ := ck_some h
              refine r_ldiv X dX1_layGets_127 c38 (by decide) (by decide) ?_
              obtain ⟨r40, h39, h⟩ := bd_some h
              refine r_cS (Wd := 2) X (fun l D sz => w_J3_min_2 l D sz h39) q743 q1085 q115 q744 hy_J3_min_2 rfl dX1_layGets_128 rfl rfl (by simp only [List.map_cons, List.map_nil, cat_rf, cat_iv, cat_jv, cat_ref, List.sum_cons, List.sum_nil]; decide) ⟨Nat.le_of_ble_eq_true rfl, Nat.le_of_ble_eq_true rfl⟩ ⟨Nat.le_of_ble_eq_true rfl, Nat.le_of_ble_eq_true rfl⟩ ?_
              refine r_l2i X dX1_layGets_131 ?_
              refine r_iast X ho35.1 (ho35.2 21 (by decide)) rfl rfl rfl (by decide) dX1_layGets_132 h (fun h => ?_)
              refine r_let h (fun σ41 eσ41 h => ?_)
              refine r_iinc X 4 dX1_layGets_133 rfl (hL 5 (by decide)) (lv' := [(5, iv ((v5_2 + 1))), (0, .ref (a0)), (2, iv (x2)), (3, iv (x3)), (4, iv (v4_1))]) rfl ?_
              refine r_goto (tgt := 91) X dX1_layGets_136 (by decide) ?_
              exact V.sub [1, 2, 3, 4, 0] rfl (ihb2 _ (Option.some.inj h).symm)
            · have h := ex_some h ihe2
              refine r_iinc X 3 dX1_layGets_139 rfl (hL 4 (by decide)) (lv' := [(4, iv ((v4_1 + 1))), (0, .ref (a0)), (2, iv (x2)), (3, iv (x3)), (5, iv (v5_2))]) rfl ?_
              refine r_goto (tgt := 56) X dX1_layGets_142 (by decide) ?_
              exact V.sub [1, 2, 3, 0] rfl (ihb1 _ (Option.some.inj h).symm)
          exact V.sub [1, 2, 3, 4, 0] rfl (L91 (0, σ33) h)
        · have h := ex_some h ihe1
          cases h
          exact r_vret X hr dX1_layGets_145
      exact V.sub [1, 3, 4, 0] rfl (L56 (0, σ_1) h)
  exact V.sub [1, 2, 3, 4, 0] rfl (L10 (6, 0, σ4) h)
theorem hy_X1_isBefore : yX1_isBefore.cls ≠ "java/lang/invoke/MethodHandle" ∧ yX1_isBefore.cls ≠ "java/lang/invoke/VarHandle" ∧ (parseMethodDescriptor yX1_isBefore.desc).map (fun d => d.parameters.length) = some 2 := by decide +kernel
set_option maxHeartbeats 4000000 in
theorem w_X1_isBefore (l : Launch) (D : DD) (sz : Nat) {σ : St} {x0 : Int} {x1 : Int} {w : Int} (h : f_X1_isBefore σ x0 x1 = some w) : Mt l yX1_isBefore cX1_isBefore 5 (some FieldType.boolean) ({ frames := 1, cells := 0, slots := 0, locals := 12 } : Room) D sz σ [iv (x0), iv (x1)] (.returned (some (iv w))) (σ) 0 0 := by
  refine Mt.of (by decide +kernel) (Nat.le_of_ble_eq_true rfl) ?_
  intro Γ X hr hnl hini hnoh
  have X : Cx Γ cX1_isBefore "DayBoy" _ := X
  have hL : ∀ i, i < 5 → i < nLc Γ := fun i q => by rw [hnl]; exact q
  show V Γ σ 0 0 0 [(0, iv (x0)), (1, iv (x1))] []
  unfold f_X1_isBefore at h
  refine r_iload_n X 0 dX1_isBefore_0 rfl rfl ?_
  obtain ⟨r2, h1, h⟩ := bd_some h
  refine r_cS (Wd := 0) X (fun l D sz => w_J5_bitCount l D sz h1) q1090 q1089 q125 q1091 hy_J5_bitCount rfl dX1_isBefore_1 rfl rfl (Nat.le_of_ble_eq_true rfl) ⟨Nat.le_of_ble_eq_true rfl, Nat.le_of_ble_eq_true rfl⟩ ⟨Nat.le_of_ble_eq_true rfl, Nat.le_of_ble_eq_true rfl⟩ ?_
  refine r_istore_n X dX1_isBefore_4 rfl (hL 2 (by decide)) (lv' := [(2, iv (r2)), (0, iv (x0)), (1, iv (x1))]) rfl ?_
  refine r_iload_n X 2 dX1_isBefore_5 rfl rfl ?_
  obtain ⟨r4, h3, h⟩ := bd_some h
  refine r_cS (Wd := 0) X (fun l D sz => w_J5_bitCount l D sz h3) q1090 q1089 q125 q1091 hy_J5_bitCount rfl dX1_isBefore_6 rfl rfl (Nat.le_of_ble_eq_true rfl) ⟨Nat.le_of_ble_eq_true rfl, Nat.le_of_ble_eq_true rfl⟩ ⟨Nat.le_of_ble_eq_true rfl, Nat.le_of_ble_eq_true rfl⟩ ?_
  refine r_istore_n X dX1_isBefore_9 rfl (hL 3 (by decide)) (lv' := [(3, iv (r4)), (2, iv (r2)), (0, iv (x0)), (1, iv (x1))]) rfl ?_
  refine r_iload_n X 2 dX1_isBefore_10 rfl rfl ?_
  refine r_iload_n X 3 dX1_isBefore_11 rfl rfl ?_
  refine r_ixor X dX1_isBefore_12 ?_
  refine r_istore X dX1_isBefore_13 (hL 4 (by decide)) (lv' := [(4, iv ((bXor (x0) (x1)))), (3, iv (r4)), (2, iv (r2)), (0, iv (x0)), (1, iv (x1))]) rfl ?_
  refine r_iload_n X 2 dX1_isBefore_15 rfl rfl ?_
  refine r_iload_n X 1 dX1_isBefore_16 rfl rfl ?_
  refine r_icmp_eq (tgt := 33) X dX1_isBefore_17 (by decide) h (fun c5 h => ?_) (fun c5 h => ?_)
  · refine r_iload_n X 3 dX1_isBefore_33 rfl rfl ?_
    refine r_iload X 0 dX1_isBefore_34 rfl ?_
    refine r_iand X dX1_isBefore_36 ?_
    refine r_iload X 0 dX1_isBefore_37 rfl ?_
    refine r_ineg X dX1_isBefore_39 ?_
    refine r_iand X dX1_isBefore_40 ?_
    refine r_if_eq (tgt := 48) X dX1_isBefore_41 (by decide) h (fun c6 h => ?_) (fun c6 h => ?_)
    · refine r_iconst X dX1_isBefore_48 ?_
      cases h
      exact r_zret X hr (by decide) dX1_isBefore_49
    · refine r_iconst X dX1_isBefore_44 ?_
      refine r_goto (tgt := 49) X dX1_isBefore_45 (by decide) ?_
      cases h
      exact r_zret X hr (by decide) dX1_isBefore_49
  · refine r_iload_n X 2 dX1_isBefore_20 rfl rfl ?_
    refine r_iload_n X 1 dX1_isBefore_21 rfl rfl ?_
    refine r_icmp_ge (tgt := 29) X dX1_isBefore_22 (by decide) h (fun c9 h => ?_) (fun c9 h => ?_)
    · refine r_iconst X dX1_isBefore_25 ?_
      refine r_goto (tgt := 49) X dX1_isBefore_26 (by decide) ?_
      cases h
      exact r_zret X hr (by decide) dX1_isBefore_49
    · refine r_iconst X dX1_isBefore_29 ?_
      refine r_goto (tgt := 49) X dX1_isBefore_30 (by decide) ?_
      cases h
      exact r_zret X hr (by decide) dX1_isBefore_49
theorem hy_X1_isCovered : yX1_isCovered.cls ≠ "java/lang/invoke/MethodHandle" ∧ yX1_isCovered.cls ≠ "java/lang/invoke/VarHandle" ∧ (parseMethodDescriptor yX1_isCovered.desc).map (fun d => d.parameters.length) = some 3 := by decide +kernel
set_option maxHeartbeats 4000000 in
theorem w_X1_isCovered (l : Launch) (D : DD) (sz : Nat) {σ : St} {a0 : Nat} {x1 : Int} {x2 : Int} {x3 : Int} {w : Int} (h : f_X1_isCovered σ a0 x1 x2 x3 = some w) : Mt l yX1_isCovered cX1_isCovered 7 (some FieldType.boolean) ({ frames := 0, cells := 0, slots := 0, locals := 0 } : Room) D sz σ [.ref a0, iv (x1), iv (x2), iv (x3)] (.returned (some (iv w))) (σ) 0 0 := by
  refine Mt.of (by decide +kernel) (Nat.le_of_ble_eq_true rfl) ?_
  intro Γ X hr hnl hini hnoh
  have X : Cx Γ cX1_isCovered "DayBoy" _ := X
  have hL : ∀ i, i < 7 → i < nLc Γ := fun i q => by rw [hnl]; exact q
  show V Γ σ 0 0 0 [(0, .ref (a0)), (1, iv (x1)), (2, iv (x2)), (3, iv (x3))] []
  unfold f_X1_isCovered at h
  obtain ⟨ho0, h⟩ := cO_some h
  refine r_iconst X dX1_isCovered_0 ?_
  refine r_istore X dX1_isCovered_1 (hL 4 (by decide)) (lv' := [(4, iv (0)), (0, .ref (a0)), (1, iv (x1)), (2, iv (x2)), (3, iv (x3))]) rfl ?_
  have L3 : ∀ s : Int, lp (fun s => f_X1_isCovered_b3 (σ) (a0) (x1) (x2) (x3) s) s = some w → V Γ (σ) 0 0 3 [(0, .ref (a0)), (1, iv (x1)), (2, iv (x2)), (3, iv (x3)), (4, iv (s))] [] := by
    refine lp_rule (P := fun s : Int => V Γ (σ) 0 0 3 [(0, .ref (a0)), (1, iv (x1)), (2, iv (x2)), (3, iv (x3)), (4, iv (s))] []) ?_
    intro s z1 h ihb1 ihe1
    obtain ⟨v4_1, es⟩ : ∃ q, q = s := ⟨s, rfl⟩
    subst es
    have h : f_X1_isCovered_b3 (σ) (a0) (x1) (x2) (x3) v4_1 = some z1 := h
    unfold f_X1_isCovered_b3 at h
    show V Γ σ 0 0 3 [(0, .ref (a0)), (1, iv (x1)), (2, iv (x2)), (3, iv (x3)), (4, iv (v4_1))] []
    refine r_iload X 4 dX1_isCovered_3 rfl ?_
    refine r_iload_n X 2 dX1_isCovered_5 rfl rfl ?_
    refine r_icmp_ge (tgt := 79) X dX1_isCovered_6 (by decide) h (fun c1 h => ?_) (fun c1 h => ?_)
    · refine r_iconst X dX1_isCovered_9 ?_
      refine r_istore X dX1_isCovered_10 (hL 5 (by decide)) (lv' := [(5, iv (0)), (0, .ref (a0)), (1, iv (x1)), (2, iv (x2)), (3, iv (x3)), (4, iv (v4_1))]) rfl ?_
      refine r_iconst X dX1_isCovered_12 ?_
      refine r_istore X dX1_isCovered_13 (hL 6 (by decide)) (lv' := [(6, iv (0)), (5, iv (0)), (0, .ref (a0)), (1, iv (x1)), (2, iv (x2)), (3, iv (x3)), (4, iv (v4_1))]) rfl ?_
      have L15 : ∀ s : Int × Int, lp (fun s => f_X1_isCovered_b15 (σ) (a0) (x1) (x2) (x3) (v4_1) s.1 s.2) s = some z1 → V Γ (σ) 0 0 15 [(0, .ref (a0)), (1, iv (x1)), (2, iv (x2)), (3, iv (x3)), (4, iv (v4_1)), (5, iv (s.1)), (6, iv (s.2))] [] := by
        refine lp_rule (P := fun s : Int × Int => V Γ (σ) 0 0 15 [(0, .ref (a0)), (1, iv (x1)), (2, iv (x2)), (3, iv (x3)), (4, iv (v4_1)), (5, iv (s.1)), (6, iv (s.2))] []) ?_
        intro s z2 h ihb2 ihe2
        obtain ⟨v5_2, v6_2⟩ := s
        have h : f_X1_isCovered_b15 (σ) (a0) (x1) (x2) (x3) (v4_1) v5_2 v6_2 = some z2 := h
        unfold f_X1_isCovered_b15 at h
        show V Γ σ 0 0 15 [(0, .ref (a0)), (1, iv (x1)), (2, iv (x2)), (3, iv (x3)), (4, iv (v4_1)), (5, iv (v5_2)), (6, iv (v6_2))] []
        refine r_iload X 6 dX1_isCovered_15 rfl ?_
        refine r_iload_n X 2 dX1_isCovered_17 rfl rfl ?_
        refine r_icmp_ge (tgt := 66) X dX1_isCovered_18 (by decide) h (fun c2 h => ?_) (fun c2 h => ?_)
        · refine r_iload X 5 dX1_isCovered_21 rfl ?_
          refine r_if_ne (tgt := 53) X dX1_isCovered_23 (by decide) h (fun c3 h => ?_) (fun c3 h => ?_)
          · refine r_iload_n X 1 dX1_isCovered_26 rfl rfl ?_
            refine r_iload X 6 dX1_isCovered_27 rfl ?_
            refine r_ishr X dX1_isCovered_29 ?_
            refine r_iconst X dX1_isCovered_30 ?_
            refine r_iand X dX1_isCovered_31 ?_
            refine r_iconst X dX1_isCovered_32 ?_
            refine r_icmp_ne (tgt := 57) X dX1_isCovered_33 (by decide) h (fun c4 h => ?_) (fun c4 h => ?_)
            · refine r_aload_n X 0 dX1_isCovered_36 rfl rfl ?_
              refine r_getA (kf := 21) X ho0.1 rfl (by decide) (by decide) (Or.inl q328) dX1_isCovered_37 ?_
              refine r_bipush X dX1_isCovered_40 (by decide) ?_
              refine r_iload X 4 dX1_isCovered_42 rfl ?_
              refine r_imul X dX1_isCovered_44 ?_
              refine r_iload X 6 dX1_isCovered_45 rfl ?_
              refine r_iadd X dX1_isCovered_47 ?_
              refine r_iald X ho0.1 (ho0.2 21 (by decide)) rfl rfl rfl (by decide) dX1_isCovered_48 h (fun h => ?_)
              refine r_iload_n X 3 dX1_isCovered_49 rfl rfl ?_
              refine r_icmp_gt (tgt := 57) X dX1_isCovered_50 (by decide) h (fun c5 h => ?_) (fun c5 h => ?_)
              · refine r_iconst X dX1_isCovered_57 ?_
                refine r_istore X dX1_isCovered_58 (hL 5 (by decide)) (lv' := [(5, iv (0)), (0, .ref (a0)), (1, iv (x1)), (2, iv (x2)), (3, iv (x3)), (4, iv (v4_1)), (6, iv (v6_2))]) rfl ?_
                refine r_iinc X 6 dX1_isCovered_60 rfl (hL 6 (by decide)) (lv' := [(6, iv ((v6_2 + 1))), (5, iv (0)), (0, .ref (a0)), (1, iv (x1)), (2, iv (x2)), (3, iv (x3)), (4, iv (v4_1))]) rfl ?_
                refine r_goto (tgt := 15) X dX1_isCovered_63 (by decide) ?_
                exact V.sub [2, 3, 4, 5, 6, 1, 0] rfl (ihb2 _ (Option.some.inj h).symm)
              · refine r_iconst X dX1_isCovered_53 ?_
                refine r_goto (tgt := 58) X dX1_isCovered_54 (by decide) ?_
                refine r_istore X dX1_isCovered_58 (hL 5 (by decide)) (lv' := [(5, iv (1)), (0, .ref (a0)), (1, iv (x1)), (2, iv (x2)), (3, iv (x3)), (4, iv (v4_1)), (6, iv (v6_2))]) rfl ?_
                refine r_iinc X 6 dX1_isCovered_60 rfl (hL 6 (by decide)) (lv' := [(6, iv ((v6_2 + 1))), (5, iv (1)), (0, .ref (a0)), (1, iv (x1)), (2, iv (x2)), (3, iv (x3)), (4, iv (v4_1))]) rfl ?_
                refine r_goto (tgt := 15) X dX1_isCovered_63 (by decide) ?_
                exact V.sub [2, 3, 4, 5, 6, 1, 0] rfl (ihb2 _ (Option.some.inj h).symm)
            · refine r_iconst X dX1_isCovered_57 ?_
              refine r_istore X dX1_isCovered_58 (hL 5 (by decide)) (lv' := [(5, iv (0)), (0, .ref (a0)), (1, iv (x1)), (2, iv (x2)), (3, iv (x3)), (4, iv (v4_1)), (6, iv (v6_2))]) rfl ?_
              refine r_iinc X 6 dX1_isCovered_60 rfl (hL 6 (by decide)) (lv' := [(6, iv ((v6_2 + 1))), (5, iv (0)), (0, .ref (a0)), (1, iv (x1)), (2, iv (x2)), (3, iv (x3)), (4, iv (v4_1))]) rfl ?_
              refine r_goto (tgt := 15) X dX1_isCovered_63 (by decide) ?_
              exact V.sub [2, 3, 4, 5, 6, 1, 0] rfl (ihb2 _ (Option.some.inj h).symm)
          · refine r_iconst X dX1_isCovered_53 ?_
            refine r_goto (tgt := 58) X dX1_isCovered_54 (by decide) ?_
            refine r_istore X dX1_isCovered_58 (hL 5 (by decide)) (lv' := [(5, iv (1)), (0, .ref (a0)), (1, iv (x1)), (2, iv (x2)), (3, iv (x3)), (4, iv (v4_1)), (6, iv (v6_2))]) rfl ?_
            refine r_iinc X 6 dX1_isCovered_60 rfl (hL 6 (by decide)) (lv' := [(6, iv ((v6_2 + 1))), (5, iv (1)), (0, .ref (a0)), (1, iv (x1)), (2, iv (x2)), (3, iv (x3)), (4, iv (v4_1))]) rfl ?_
            refine r_goto (tgt := 15) X dX1_isCovered_63 (by decide) ?_
            exact V.sub [2, 3, 4, 5, 6, 1, 0] rfl (ihb2 _ (Option.some.inj h).symm)
        · have h := ex_some h ihe2
          refine r_iload X 5 dX1_isCovered_66 rfl ?_
          refine r_if_ne (tgt := 73) X dX1_isCovered_68 (by decide) h (fun c6 h => ?_) (fun c6 h => ?_)
          · have h := ex_some h ihe1
            refine r_iconst X dX1_isCovered_71 ?_
            cases h
            exact r_zret X hr (by decide) dX1_isCovered_72
          · refine r_iinc X 4 dX1_isCovered_73 rfl (hL 4 (by decide)) (lv' := [(4, iv ((v4_1 + 1))), (0, .ref (a0)), (1, iv (x1)), (2, iv (x2)), (3, iv (x3)), (5, iv (v5_2)), (6, iv (v6_2))]) rfl ?_
            refine r_goto (tgt := 3) X dX1_isCovered_76 (by decide) ?_
            exact V.sub [1, 2, 3, 4, 0] rfl (ihb1 _ (Option.some.inj h).symm)
      exact V.sub [2, 3, 4, 5, 6, 1, 0] rfl (L15 (0, 0) h)
    · have h := ex_some h ihe1
      refine r_iconst X dX1_isCovered_79 ?_
      cases h
      exact r_zret X hr (by decide) dX1_isCovered_80
  exact V.sub [1, 2, 3, 4, 0] rfl (L3 (0) h)
theorem hy_X1_least : yX1_least.cls ≠ "java/lang/invoke/MethodHandle" ∧ yX1_least.cls ≠ "java/lang/invoke/VarHandle" ∧ (parseMethodDescriptor yX1_least.desc).map (fun d => d.parameters.length) = some 5 := by decide +kernel
set_option maxHeartbeats 4000000 in
theorem w_X1_least (l : Launch) (D : DD) (sz : Nat) {σ : St} {a0 : Nat} {x1 : Int} {x2 : Int} {x3 : Int} {x4 : Int} {x5 : Int} {w : Int × St} (h : f_X1_least σ a0 x1 x2 x3 x4 x5 = some w) : Mt l yX1_least cX1_least 8 (some FieldType.int) ({ frames := 4, cells := 7, slots := 14, locals := 63 } : Room) D sz σ [.ref a0, iv (x1), iv (x2), iv (x3), iv (x4), iv (x5)] (.returned (some (iv w.1))) (w.2) 6 12 := by
  refine Mt.of (by decide +kernel) (Nat.le_of_ble_eq_true rfl) ?_
  intro Γ X hr hnl hini hnoh
  have X : Cx Γ cX1_least "DayBoy" _ := X
  have hL : ∀ i, i < 8 → i < nLc Γ := fun i q => by rw [hnl]; exact q
  show V Γ σ 0 0 0 [(0, .ref (a0)), (1, iv (x1)), (2, iv (x2)), (3, iv (x3)), (4, iv (x4)), (5, iv (x5))] []
  unfold f_X1_least at h
  obtain ⟨ho0, h⟩ := cO_some h
  refine r_aload_n X 0 dX1_least_0 rfl rfl ?_
  refine r_iload_n X 1 dX1_least_1 rfl rfl ?_
  obtain ⟨r2, h1, h⟩ := bd_some h
  refine r_cV (Wd := 0) X (fun l D sz => w_X1_isHead l D sz h1) ho0.1 rfl q852 qs27 q850 q104 q853 hy_X1_isHead rfl dX1_least_2 rfl rfl (Nat.le_of_ble_eq_true rfl) ⟨Nat.le_of_ble_eq_true rfl, Nat.le_of_ble_eq_true rfl⟩ ⟨Nat.le_of_ble_eq_true rfl, Nat.le_of_ble_eq_true rfl⟩ ?_
  refine r_if_eq (tgt := 62) X dX1_least_5 (by decide) h (fun c3 h => ?_) (fun c3 h => ?_)
  · refine r_iconst X dX1_least_62 ?_
    cases h
    exact V.widen (by decide) (by decide) <| r_iret X hr dX1_least_63
  · refine r_iload_n X 2 dX1_least_8 rfl rfl ?_
    obtain ⟨r5, h4, h⟩ := bd_some h
    refine r_cS (Wd := 0) X (fun l D sz => w_X1_isYear l D sz h4) q820 q819 q104 q821 hy_X1_isYear rfl dX1_least_9 rfl rfl (Nat.le_of_ble_eq_true rfl) ⟨Nat.le_of_ble_eq_true rfl, Nat.le_of_ble_eq_true rfl⟩ ⟨Nat.le_of_ble_eq_true rfl, Nat.le_of_ble_eq_true rfl⟩ ?_
    refine r_if_eq (tgt := 62) X dX1_least_12 (by decide) h (fun c6 h => ?_) (fun c6 h => ?_)
    · refine r_iconst X dX1_least_62 ?_
      cases h
      exact V.widen (by decide) (by decide) <| r_iret X hr dX1_least_63
    · refine r_iload_n X 3 dX1_least_15 rfl rfl ?_
      obtain ⟨c7, h⟩ := ck_some h
      refine r_i2l X dX1_least_16 c7 ?_
      refine r_lconst (y := 1) X dX1_least_17 rfl ?_
      refine r_ldc2 (z := 14) X q1072 dX1_least_18 rfl ?_
      obtain ⟨r9, h8, h⟩ := bd_some h
      refine r_cS (Wd := 0) X (fun l D sz => w_X1_isIn l D sz h8) q414 q413 q104 q415 hy_X1_isIn rfl dX1_least_21 rfl rfl (Nat.le_of_ble_eq_true rfl) ⟨Nat.le_of_ble_eq_true rfl, Nat.le_of_ble_eq_true rfl⟩ ⟨Nat.le_of_ble_eq_true rfl, Nat.le_of_ble_eq_true rfl⟩ ?_
      refine r_if_eq (tgt := 62) X dX1_least_24 (by decide) h (fun c10 h => ?_) (fun c10 h => ?_)
      · refine r_iconst X dX1_least_62 ?_
        cases h
        exact V.widen (by decide) (by decide) <| r_iret X hr dX1_least_63
      · refine r_iload_n X 2 dX1_least_27 rfl rfl ?_
        refine r_iload_n X 3 dX1_least_28 rfl rfl ?_
        refine r_iadd X dX1_least_29 ?_
        refine r_iconst X dX1_least_30 ?_
        refine r_isub X dX1_least_31 ?_
        refine r_sipush X dX1_least_32 (by decide) ?_
        refine r_icmp_gt (tgt := 62) X dX1_least_35 (by decide) h (fun c11 h => ?_) (fun c11 h => ?_)
        · refine r_iconst X dX1_least_62 ?_
          cases h
          exact V.widen (by decide) (by decide) <| r_iret X hr dX1_least_63
        · refine r_iload X 4 dX1_least_38 rfl ?_
          obtain ⟨c12, h⟩ := ck_some h
          refine r_i2l X dX1_least_40 c12 ?_
          refine r_lconst (y := 0) X dX1_least_41 rfl ?_
          refine r_ldc2 (z := 999) X q917 dX1_least_42 rfl ?_
          obtain ⟨r14, h13, h⟩ := bd_some h
          refine r_cS (Wd := 0) X (fun l D sz => w_X1_isIn l D sz h13) q414 q413 q104 q415 hy_X1_isIn rfl dX1_least_45 rfl rfl (Nat.le_of_ble_eq_true rfl) ⟨Nat.le_of_ble_eq_true rfl, Nat.le_of_ble_eq_true rfl⟩ ⟨Nat.le_of_ble_eq_true rfl, Nat.le_of_ble_eq_true rfl⟩ ?_
          refine r_if_eq (tgt := 62) X dX1_least_48 (by decide) h (fun c15 h => ?_) (fun c15 h => ?_)
          · refine r_iconst X dX1_least_62 ?_
            cases h
            exact V.widen (by decide) (by decide) <| r_iret X hr dX1_least_63
          · refine r_iload X 5 dX1_least_51 rfl ?_
            obtain ⟨c16, h⟩ := ck_some h
            refine r_i2l X dX1_least_53 c16 ?_
            refine r_lconst (y := 0) X dX1_least_54 rfl ?_
            refine r_lconst (y := 1) X dX1_least_55 rfl ?_
            obtain ⟨r18, h17, h⟩ := bd_some h
            refine r_cS (Wd := 0) X (fun l D sz => w_X1_isIn l D sz h17) q414 q413 q104 q415 hy_X1_isIn rfl dX1_least_56 rfl rfl (Nat.le_of_ble_eq_true rfl) ⟨Nat.le_of_ble_eq_true rfl, Nat.le_of_ble_eq_true rfl⟩ ⟨Nat.le_of_ble_eq_true rfl, Nat.le_of_ble_eq_true rfl⟩ ?_
            refine r_if_ne (tgt := 64) X dX1_least_59 (by decide) h (fun c19 h => ?_) (fun c19 h => ?_)
            · refine r_iconst X dX1_least_62 ?_
              cases h
              exact V.widen (by decide) (by decide) <| r_iret X hr dX1_least_63
            · refine r_aload_n X 0 dX1_least_64 rfl rfl ?_
              refine r_aload_n X 0 dX1_least_65 rfl rfl ?_
              refine r_getA (kf := 5) X ho0.1 rfl (by decide) (by decide) (Or.inl q311) dX1_least_66 ?_
              refine r_iload_n X 1 dX1_least_69 rfl rfl ?_
              refine r_aald X ho0.1 (ho0.2 5 (by decide)) rfl rfl (by decide) rfl (by decide) dX1_least_70 h (fun b20 h => ?_)
              refine r_iload_n X 2 dX1_least_71 rfl rfl ?_
              refine r_iload_n X 3 dX1_least_72 rfl rfl ?_
              obtain ⟨σ22, h21, h⟩ := bd_some h
              refine r_cV (Wd := 0) X (fun l D sz => w_X1_layGets l D sz h21) ho0.1 rfl q1075 qs38 q1073 q104 q1076 hy_X1_layGets rfl dX1_least_73 rfl rfl (Nat.le_of_ble_eq_true rfl) ⟨Nat.le_of_ble_eq_true rfl, Nat.le_of_ble_eq_true rfl⟩ ⟨Nat.le_of_ble_eq_true rfl, Nat.le_of_ble_eq_true rfl⟩ ?_
              refine r_iconst X dX1_least_76 ?_
              refine r_iload_n X 3 dX1_least_77 rfl rfl ?_
              refine r_ishl X dX1_least_78 ?_
              refine r_iconst X dX1_least_79 ?_
              refine r_isub X dX1_least_80 ?_
              refine r_istore X dX1_least_81 (hL 6 (by decide)) (lv' := [(6, iv (((bShl (1) (x3)) - 1))), (0, .ref (a0)), (1, iv (x1)), (2, iv (x2)), (3, iv (x3)), (4, iv (x4)), (5, iv (x5))]) rfl ?_
              refine r_iconst X dX1_least_83 ?_
              refine r_istore X dX1_least_84 (hL 7 (by decide)) (lv' := [(7, iv (1)), (6, iv (((bShl (1) (x3)) - 1))), (0, .ref (a0)), (1, iv (x1)), (2, iv (x2)), (3, iv (x3)), (4, iv (x4)), (5, iv (x5))]) rfl ?_
              have L86 : ∀ s : Int × Int, lp (fun s => f_X1_least_b86 (σ22) (a0) (x3) (x4) (x5) s.1 s.2) s = some w → V Γ (σ22) 6 12 86 [(0, .ref (a0)), (3, iv (x3)), (4, iv (x4)), (5, iv (x5)), (6, iv (s.1)), (7, iv (s.2))] [] := by
                refine lp_rule (P := fun s : Int × Int => V Γ (σ22) 6 12 86 [(0, .ref (a0)), (3, iv (x3)), (4, iv (x4)), (5, iv (x5)), (6, iv (s.1)), (7, iv (s.2))] []) ?_
                intro s z1 h ihb1 ihe1
                obtain ⟨v6_1, v7_1⟩ := s
                have h : f_X1_least_b86 (σ22) (a0) (x3) (x4) (x5) v6_1 v7_1 = some z1 := h
                unfold f_X1_least_b86 at h
                show V Γ σ22 6 12 86 [(0, .ref (a0)), (3, iv (x3)), (4, iv (x4)), (5, iv (x5)), (6, iv (v6_1)), (7, iv (v7_1))] []
                refine r_iload X 5 dX1_least_86 rfl ?_
                refine r_iconst X dX1_least_88 ?_
                refine r_iload_n X 1 dX1_least_89 rfl rfl ?_
                refine r_ishl X dX1_least_90 ?_
                refine r_icmp_ge (tgt := 126) X dX1_least_91 (by decide) h (fun c23 h => ?_) (fun c23 h => ?_)
                · refine r_iload X 5 dX1_least_94 rfl ?_
                  refine r_iload X 4 dX1_least_96 rfl ?_
                  obtain ⟨r25, h24, h⟩ := bd_some h
                  refine r_cS (Wd := 0) X (fun l D sz => w_X1_isBefore l D sz h24) q1087 q1086 q104 q1088 hy_X1_isBefore rfl dX1_least_98 rfl rfl (Nat.le_of_ble_eq_true rfl) ⟨Nat.le_of_ble_eq_true rfl, Nat.le_of_ble_eq_true rfl⟩ ⟨Nat.le_of_ble_eq_true rfl, Nat.le_of_ble_eq_true rfl⟩ ?_
                  refine r_if_eq (tgt := 120) X dX1_least_101 (by decide) h (fun c26 h => ?_) (fun c26 h => ?_)
                  · refine r_iinc X 5 dX1_least_120 rfl (hL 7 (by decide)) (lv' := [(7, iv ((v7_1 + 1))), (0, .ref (a0)), (3, iv (x3)), (4, iv (x4)), (5, iv (x5)), (6, iv (v6_1))]) rfl ?_
                    refine r_goto (tgt := 86) X dX1_least_123 (by decide) ?_
                    exact V.sub [1, 2, 3, 4, 5, 0] rfl (ihb1 _ (Option.some.inj h).symm)
                  · refine r_aload_n X 0 dX1_least_104 rfl rfl ?_
                    refine r_iload X 5 dX1_least_105 rfl ?_
                    refine r_iload_n X 1 dX1_least_107 rfl rfl ?_
                    refine r_iload X 2 dX1_least_108 rfl ?_
                    obtain ⟨ho28, h⟩ := cO_some h
                    obtain ⟨r29, h27, h⟩ := bd_some h
                    refine r_cV (Wd := 0) X (fun l D sz => w_X1_isCovered l D sz h27) ho28.1 rfl q1097 qs39 q1095 q104 q1098 hy_X1_isCovered rfl dX1_least_110 rfl rfl (Nat.le_of_ble_eq_true rfl) ⟨Nat.le_of_ble_eq_true rfl, Nat.le_of_ble_eq_true rfl⟩ ⟨Nat.le_of_ble_eq_true rfl, Nat.le_of_ble_eq_true rfl⟩ ?_
                    refine r_if_eq (tgt := 120) X dX1_least_113 (by decide) h (fun c30 h => ?_) (fun c30 h => ?_)
                    · refine r_iinc X 5 dX1_least_120 rfl (hL 7 (by decide)) (lv' := [(7, iv ((v7_1 + 1))), (0, .ref (a0)), (3, iv (x3)), (4, iv (x4)), (5, iv (x5)), (6, iv (v6_1))]) rfl ?_
                      refine r_goto (tgt := 86) X dX1_least_123 (by decide) ?_
                      exact V.sub [1, 2, 3, 4, 5, 0] rfl (ihb1 _ (Option.some.inj h).symm)
                    · refine r_iload X 5 dX1_least_116 rfl ?_
                      refine r_istore X dX1_least_118 (hL 6 (by decide)) (lv' := [(6, iv (v7_1)), (0, .ref (a0)), (3, iv (x3)), (4, iv (x4)), (5, iv (x5)), (7, iv (v7_1))]) rfl ?_
                      refine r_iinc X 5 dX1_least_120 rfl (hL 7 (by decide)) (lv' := [(7, iv ((v7_1 + 1))), (6, iv (v7_1)), (0, .ref (a0)), (3, iv (x3)), (4, iv (x4)), (5, iv (x5))]) rfl ?_
                      refine r_goto (tgt := 86) X dX1_least_123 (by decide) ?_
                      exact V.sub [2, 3, 4, 5, 1, 0] rfl (ihb1 _ (Option.some.inj h).symm)
                · have h := ex_some h ihe1
                  refine r_iload X 3 dX1_least_126 rfl ?_
                  refine r_if_ne (tgt := 139) X dX1_least_128 (by decide) h (fun c31 h => ?_) (fun c31 h => ?_)
                  · refine r_iload X 4 dX1_least_131 rfl ?_
                    obtain ⟨r33, h32, h⟩ := bd_some h
                    refine r_cS (Wd := 0) X (fun l D sz => w_J5_bitCount l D sz h32) q1090 q1089 q125 q1091 hy_J5_bitCount rfl dX1_least_133 rfl rfl (Nat.le_of_ble_eq_true rfl) ⟨Nat.le_of_ble_eq_true rfl, Nat.le_of_ble_eq_true rfl⟩ ⟨Nat.le_of_ble_eq_true rfl, Nat.le_of_ble_eq_true rfl⟩ ?_
                    refine r_goto (tgt := 141) X dX1_least_136 (by decide) ?_
                    cases h
                    exact r_iret X hr dX1_least_141
                  · refine r_iload X 4 dX1_least_139 rfl ?_
                    cases h
                    exact r_iret X hr dX1_least_141
              exact V.sub [2, 5, 6, 7, 1, 0] rfl (L86 (((bShl (1) (x3)) - 1), 1) h)
theorem hy_X1_like : yX1_like.cls ≠ "java/lang/invoke/MethodHandle" ∧ yX1_like.cls ≠ "java/lang/invoke/VarHandle" ∧ (parseMethodDescriptor yX1_like.desc).map (fun d => d.parameters.length) = some 3 := by decide +kernel
set_option maxHeartbeats 4000000 in
theorem w_X1_like (l : Launch) (D : DD) (sz : Nat) {σ : St} {a0 : Nat} {x1 : Int} {x2 : Int} {x3 : Int} {w : Int} (h : f_X1_like σ a0 x1 x2 x3 = some w) : Mt l yX1_like cX1_like 8 (some FieldType.int) ({ frames := 9, cells := 0, slots := 0, locals := 137 } : Room) D sz σ [.ref a0, iv (x1), iv (x2), iv (x3)] (.returned (some (iv w))) (σ) 0 0 := by
  refine Mt.of (by decide +kernel) (Nat.le_of_ble_eq_true rfl) ?_
  intro Γ X hr hnl hini hnoh
  have X : Cx Γ cX1_like "DayBoy" _ := X
  have hL : ∀ i, i < 8 → i < nLc Γ := fun i q => by rw [hnl]; exact q
  show V Γ σ 0 0 0 [(0, .ref (a0)), (1, iv (x1)), (2, iv (x2)), (3, iv (x3))] []
  unfold f_X1_like at h
  obtain ⟨ho0, h⟩ := cO_some h
  refine r_aload_n X 0 dX1_like_0 rfl rfl ?_
  refine r_iload_n X 1 dX1_like_1 rfl rfl ?_
  obtain ⟨r2, h1, h⟩ := bd_some h
  refine r_cV (Wd := 0) X (fun l D sz => w_X1_isCalendar l D sz h1) ho0.1 rfl q751 qs22 q749 q104 q752 hy_X1_isCalendar rfl dX1_like_2 rfl rfl (Nat.le_of_ble_eq_true rfl) ⟨Nat.le_of_ble_eq_true rfl, Nat.le_of_ble_eq_true rfl⟩ ⟨Nat.le_of_ble_eq_true rfl, Nat.le_of_ble_eq_true rfl⟩ ?_
  refine r_if_eq (tgt := 19) X dX1_like_5 (by decide) h (fun c3 h => ?_) (fun c3 h => ?_)
  · refine r_iconst X dX1_like_19 ?_
    cases h
    exact r_iret X hr dX1_like_20
  · refine r_iload_n X 2 dX1_like_8 rfl rfl ?_
    obtain ⟨r5, h4, h⟩ := bd_some h
    refine r_cS (Wd := 0) X (fun l D sz => w_X1_isYear l D sz h4) q820 q819 q104 q821 hy_X1_isYear rfl dX1_like_9 rfl rfl (Nat.le_of_ble_eq_true rfl) ⟨Nat.le_of_ble_eq_true rfl, Nat.le_of_ble_eq_true rfl⟩ ⟨Nat.le_of_ble_eq_true rfl, Nat.le_of_ble_eq_true rfl⟩ ?_
    refine r_if_eq (tgt := 19) X dX1_like_12 (by decide) h (fun c6 h => ?_) (fun c6 h => ?_)
    · refine r_iconst X dX1_like_19 ?_
      cases h
      exact r_iret X hr dX1_like_20
    · refine r_iload_n X 3 dX1_like_15 rfl rfl ?_
      refine r_if_ge (tgt := 21) X dX1_like_16 (by decide) h (fun c7 h => ?_) (fun c7 h => ?_)
      · refine r_iconst X dX1_like_19 ?_
        cases h
        exact r_iret X hr dX1_like_20
      · refine r_aload_n X 0 dX1_like_21 rfl rfl ?_
        refine r_getA (kf := 4) X ho0.1 rfl (by decide) (by decide) (Or.inl q310) dX1_like_22 ?_
        refine r_iload_n X 1 dX1_like_25 rfl rfl ?_
        refine r_aald X ho0.1 (ho0.2 4 (by decide)) rfl rfl (by decide) rfl (by decide) dX1_like_26 h (fun b8 h => ?_)
        refine r_astore X dX1_like_27 (hL 4 (by decide)) (lv' := [(4, .ref (b8)), (0, .ref (a0)), (1, iv (x1)), (2, iv (x2)), (3, iv (x3))]) rfl ?_
        refine r_aload X 0 dX1_like_29 rfl ?_
        refine r_iload_n X 3 dX1_like_31 rfl rfl ?_
        obtain ⟨ho10, h⟩ := cO_some h
        obtain ⟨r11, h9, h⟩ := bd_some h
        refine r_cV (Wd := 0) X (fun l D sz => w_X2_kind l D sz h9) ho10.1 rfl q834 q835 q833 q105 q836 hy_X2_kind rfl dX1_like_32 rfl rfl (Nat.le_of_ble_eq_true rfl) ⟨Nat.le_of_ble_eq_true rfl, Nat.le_of_ble_eq_true rfl⟩ ⟨Nat.le_of_ble_eq_true rfl, Nat.le_of_ble_eq_true rfl⟩ ?_
        refine r_istore X dX1_like_35 (hL 5 (by decide)) (lv' := [(5, iv (r11)), (4, .ref (b8)), (0, .ref (a0)), (1, iv (x1)), (2, iv (x2)), (3, iv (x3))]) rfl ?_
        refine r_iconst X dX1_like_37 ?_
        refine r_istore X dX1_like_38 (hL 6 (by decide)) (lv' := [(6, iv (0)), (5, iv (r11)), (4, .ref (b8)), (0, .ref (a0)), (1, iv (x1)), (2, iv (x2)), (3, iv (x3))]) rfl ?_
        refine r_iload_n X 5 dX1_like_40 rfl rfl ?_
        refine r_iconst X dX1_like_41 ?_
        refine r_iadd X dX1_like_42 ?_
        refine r_istore X dX1_like_43 (hL 7 (by decide)) (lv' := [(7, iv ((x2 + 1))), (6, iv (0)), (5, iv (r11)), (4, .ref (b8)), (0, .ref (a0)), (1, iv (x1)), (2, iv (x2)), (3, iv (x3))]) rfl ?_
        have L45 : ∀ s : Int × Int, lp (fun s => f_X1_like_b45 (σ) (x3) (b8) (r11) s.1 s.2) s = some w → V Γ (σ) 0 0 45 [(3, iv (x3)), (4, .ref (b8)), (5, iv (r11)), (6, iv (s.1)), (7, iv (s.2))] [] := by
          refine lp_rule (P := fun s : Int × Int => V Γ (σ) 0 0 45 [(3, iv (x3)), (4, .ref (b8)), (5, iv (r11)), (6, iv (s.1)), (7, iv (s.2))] []) ?_
          intro s z1 h ihb1 ihe1
          obtain ⟨v6_1, v7_1⟩ := s
          have h : f_X1_like_b45 (σ) (x3) (b8) (r11) v6_1 v7_1 = some z1 := h
          unfold f_X1_like_b45 at h
          show V Γ σ 0 0 45 [(3, iv (x3)), (4, .ref (b8)), (5, iv (r11)), (6, iv (v6_1)), (7, iv (v7_1))] []
          refine r_iload X 4 dX1_like_45 rfl ?_
          refine r_sipush X dX1_like_47 (by decide) ?_
          refine r_icmp_gt (tgt := 92) X dX1_like_50 (by decide) h (fun c12 h => ?_) (fun c12 h => ?_)
          · have h := ex_some h ihe1
            refine r_iconst X dX1_like_92 ?_
            cases h
            exact r_iret X hr dX1_like_93
          · refine r_iload X 2 dX1_like_53 rfl ?_
            refine r_iconst X dX1_like_55 ?_
            refine r_icmp_eq (tgt := 92) X dX1_like_56 (by decide) h (fun c13 h => ?_) (fun c13 h => ?_)
            · have h := ex_some h ihe1
              refine r_iconst X dX1_like_92 ?_
              cases h
              exact r_iret X hr dX1_like_93
            · refine r_aload X 1 dX1_like_59 rfl ?_
              refine r_iload X 4 dX1_like_61 rfl ?_
              obtain ⟨r15, h14, h⟩ := bd_some h
              refine r_cV (Wd := 0) X (fun l D sz => w_X2_kind l D sz h14) ho10.1 rfl q834 q835 q833 q105 q836 hy_X2_kind rfl dX1_like_63 rfl rfl (Nat.le_of_ble_eq_true rfl) ⟨Nat.le_of_ble_eq_true rfl, Nat.le_of_ble_eq_true rfl⟩ ⟨Nat.le_of_ble_eq_true rfl, Nat.le_of_ble_eq_true rfl⟩ ?_
              refine r_iload X 2 dX1_like_66 rfl ?_
              refine r_icmp_eq (tgt := 74) X dX1_like_68 (by decide) h (fun c16 h => ?_) (fun c16 h => ?_)
              · refine r_iload X 3 dX1_like_74 rfl ?_
                refine r_iload_n X 0 dX1_like_76 rfl rfl ?_
                refine r_icmp_ne (tgt := 83) X dX1_like_77 (by decide) h (fun c17 h => ?_) (fun c17 h => ?_)
                · have h := ex_some h ihe1
                  refine r_iload X 4 dX1_like_80 rfl ?_
                  cases h
                  exact r_iret X hr dX1_like_82
                · refine r_iinc X 3 dX1_like_83 rfl (hL 6 (by decide)) (lv' := [(6, iv ((v6_1 + 1))), (3, iv (x3)), (4, .ref (b8)), (5, iv (r11)), (7, iv (v7_1))]) rfl ?_
                  refine r_iinc X 4 dX1_like_86 rfl (hL 7 (by decide)) (lv' := [(7, iv ((v7_1 + 1))), (6, iv ((v6_1 + 1))), (3, iv (x3)), (4, .ref (b8)), (5, iv (r11))]) rfl ?_
                  refine r_goto (tgt := 45) X dX1_like_89 (by decide) ?_
                  exact V.sub [2, 3, 4, 1, 0] rfl (ihb1 _ (Option.some.inj h).symm)
              · refine r_goto (tgt := 86) X dX1_like_71 (by decide) ?_
                refine r_iinc X 4 dX1_like_86 rfl (hL 7 (by decide)) (lv' := [(7, iv ((v7_1 + 1))), (3, iv (x3)), (4, .ref (b8)), (5, iv (r11)), (6, iv (v6_1))]) rfl ?_
                refine r_goto (tgt := 45) X dX1_like_89 (by decide) ?_
                exact V.sub [1, 2, 3, 4, 0] rfl (ihb1 _ (Option.some.inj h).symm)
        exact V.sub [7, 3, 2, 1, 0] rfl (L45 (0, (x2 + 1)) h)
theorem hy_X1_thirteenths : yX1_thirteenths.cls ≠ "java/lang/invoke/MethodHandle" ∧ yX1_thirteenths.cls ≠ "java/lang/invoke/VarHandle" ∧ (parseMethodDescriptor yX1_thirteenths.desc).map (fun d => d.parameters.length) = some 4 := by decide +kernel
set_option maxHeartbeats 4000000 in
theorem w_X1_thirteenths (l : Launch) (D : DD) (sz : Nat) {σ : St} {a0 : Nat} {x1 : Int} {x2 : Int} {x3 : Int} {x4 : Int} {w : Int} (h : f_X1_thirteenths σ a0 x1 x2 x3 x4 = some w) : Mt l yX1_thirteenths cX1_thirteenths 8 (some FieldType.int) ({ frames := 8, cells := 0, slots := 0, locals := 123 } : Room) D sz σ [.ref a0, iv (x1), iv (x2), iv (x3), iv (x4)] (.returned (some (iv w))) (σ) 0 0 := by
  refine Mt.of (by decide +kernel) (Nat.le_of_ble_eq_true rfl) ?_
  intro Γ X hr hnl hini hnoh
  have X : Cx Γ cX1_thirteenths "DayBoy" _ := X
  have hL : ∀ i, i < 8 → i < nLc Γ := fun i q => by rw [hnl]; exact q
  show V Γ σ 0 0 0 [(0, .ref (a0)), (1, iv (x1)), (2, iv (x2)), (3, iv (x3)), (4, iv (x4))] []
  unfold f_X1_thirteenths at h
  obtain ⟨ho0, h⟩ := cO_some h
  refine r_aload_n X 0 dX1_thirteenths_0 rfl rfl ?_
  refine r_iload_n X 1 dX1_thirteenths_1 rfl rfl ?_
  obtain ⟨r2, h1, h⟩ := bd_some h
  refine r_cV (Wd := 0) X (fun l D sz => w_X1_isCalendar l D sz h1) ho0.1 rfl q751 qs22 q749 q104 q752 hy_X1_isCalendar rfl dX1_thirteenths_2 rfl rfl (Nat.le_of_ble_eq_true rfl) ⟨Nat.le_of_ble_eq_true rfl, Nat.le_of_ble_eq_true rfl⟩ ⟨Nat.le_of_ble_eq_true rfl, Nat.le_of_ble_eq_true rfl⟩ ?_
  refine r_if_eq (tgt := 41) X dX1_thirteenths_5 (by decide) h (fun c3 h => ?_) (fun c3 h => ?_)
  · refine r_iconst X dX1_thirteenths_41 ?_
    cases h
    exact r_iret X hr dX1_thirteenths_42
  · refine r_iload_n X 2 dX1_thirteenths_8 rfl rfl ?_
    obtain ⟨r5, h4, h⟩ := bd_some h
    refine r_cS (Wd := 0) X (fun l D sz => w_X1_isYear l D sz h4) q820 q819 q104 q821 hy_X1_isYear rfl dX1_thirteenths_9 rfl rfl (Nat.le_of_ble_eq_true rfl) ⟨Nat.le_of_ble_eq_true rfl, Nat.le_of_ble_eq_true rfl⟩ ⟨Nat.le_of_ble_eq_true rfl, Nat.le_of_ble_eq_true rfl⟩ ?_
    refine r_if_eq (tgt := 41) X dX1_thirteenths_12 (by decide) h (fun c6 h => ?_) (fun c6 h => ?_)
    · refine r_iconst X dX1_thirteenths_41 ?_
      cases h
      exact r_iret X hr dX1_thirteenths_42
    · refine r_iload_n X 3 dX1_thirteenths_15 rfl rfl ?_
      obtain ⟨c7, h⟩ := ck_some h
      refine r_i2l X dX1_thirteenths_16 c7 ?_
      refine r_iload_n X 2 dX1_thirteenths_17 rfl rfl ?_
      obtain ⟨c8, h⟩ := ck_some h
      refine r_i2l X dX1_thirteenths_18 c8 ?_
      refine r_ldc2 (z := 9999) X q822 dX1_thirteenths_19 rfl ?_
      obtain ⟨r10, h9, h⟩ := bd_some h
      refine r_cS (Wd := 0) X (fun l D sz => w_X1_isIn l D sz h9) q414 q413 q104 q415 hy_X1_isIn rfl dX1_thirteenths_22 rfl rfl (Nat.le_of_ble_eq_true rfl) ⟨Nat.le_of_ble_eq_true rfl, Nat.le_of_ble_eq_true rfl⟩ ⟨Nat.le_of_ble_eq_true rfl, Nat.le_of_ble_eq_true rfl⟩ ?_
      refine r_if_eq (tgt := 41) X dX1_thirteenths_25 (by decide) h (fun c11 h => ?_) (fun c11 h => ?_)
      · refine r_iconst X dX1_thirteenths_41 ?_
        cases h
        exact r_iret X hr dX1_thirteenths_42
      · refine r_iload X 4 dX1_thirteenths_28 rfl ?_
        obtain ⟨c12, h⟩ := ck_some h
        refine r_i2l X dX1_thirteenths_30 c12 ?_
        refine r_lconst (y := 0) X dX1_thirteenths_31 rfl ?_
        refine r_ldc2 (z := 6) X q918 dX1_thirteenths_32 rfl ?_
        obtain ⟨r14, h13, h⟩ := bd_some h
        refine r_cS (Wd := 0) X (fun l D sz => w_X1_isIn l D sz h13) q414 q413 q104 q415 hy_X1_isIn rfl dX1_thirteenths_35 rfl rfl (Nat.le_of_ble_eq_true rfl) ⟨Nat.le_of_ble_eq_true rfl, Nat.le_of_ble_eq_true rfl⟩ ⟨Nat.le_of_ble_eq_true rfl, Nat.le_of_ble_eq_true rfl⟩ ?_
        refine r_if_ne (tgt := 43) X dX1_thirteenths_38 (by decide) h (fun c15 h => ?_) (fun c15 h => ?_)
        · refine r_iconst X dX1_thirteenths_41 ?_
          cases h
          exact r_iret X hr dX1_thirteenths_42
        · refine r_iconst X dX1_thirteenths_43 ?_
          refine r_istore X dX1_thirteenths_44 (hL 5 (by decide)) (lv' := [(5, iv (0)), (0, .ref (a0)), (1, iv (x1)), (2, iv (x2)), (3, iv (x3)), (4, iv (x4))]) rfl ?_
          refine r_iload_n X 3 dX1_thirteenths_46 rfl rfl ?_
          refine r_istore X dX1_thirteenths_47 (hL 6 (by decide)) (lv' := [(6, iv (x2)), (5, iv (0)), (0, .ref (a0)), (1, iv (x1)), (2, iv (x2)), (3, iv (x3)), (4, iv (x4))]) rfl ?_
          have L49 : ∀ s : Int × Int, lp (fun s => f_X1_thirteenths_b49 (σ) (a0) (x1) (x3) (x4) s.1 s.2) s = some w → V Γ (σ) 0 0 49 [(0, .ref (a0)), (1, iv (x1)), (3, iv (x3)), (4, iv (x4)), (5, iv (s.1)), (6, iv (s.2))] [] := by
            refine lp_rule (P := fun s : Int × Int => V Γ (σ) 0 0 49 [(0, .ref (a0)), (1, iv (x1)), (3, iv (x3)), (4, iv (x4)), (5, iv (s.1)), (6, iv (s.2))] []) ?_
            intro s z1 h ihb1 ihe1
            obtain ⟨v5_1, v6_1⟩ := s
            have h : f_X1_thirteenths_b49 (σ) (a0) (x1) (x3) (x4) v5_1 v6_1 = some z1 := h
            unfold f_X1_thirteenths_b49 at h
            show V Γ σ 0 0 49 [(0, .ref (a0)), (1, iv (x1)), (3, iv (x3)), (4, iv (x4)), (5, iv (v5_1)), (6, iv (v6_1))] []
            refine r_iload X 5 dX1_thirteenths_49 rfl ?_
            refine r_iload_n X 2 dX1_thirteenths_51 rfl rfl ?_
            refine r_icmp_gt (tgt := 125) X dX1_thirteenths_52 (by decide) h (fun c16 h => ?_) (fun c16 h => ?_)
            · have h := ex_some h ihe1
              refine r_iload X 4 dX1_thirteenths_125 rfl ?_
              cases h
              exact r_iret X hr dX1_thirteenths_127
            · refine r_iconst X dX1_thirteenths_55 ?_
              refine r_istore X dX1_thirteenths_56 (hL 7 (by decide)) (lv' := [(7, iv (1)), (0, .ref (a0)), (1, iv (x1)), (3, iv (x3)), (4, iv (x4)), (5, iv (v5_1)), (6, iv (v6_1))]) rfl ?_
              have L58 : ∀ s : Int × Int, lp (fun s => f_X1_thirteenths_b58 (σ) (a0) (x1) (x3) (x4) (v6_1) s.1 s.2) s = some z1 → V Γ (σ) 0 0 58 [(0, .ref (a0)), (1, iv (x1)), (3, iv (x3)), (4, iv (x4)), (5, iv (s.1)), (6, iv (v6_1)), (7, iv (s.2))] [] := by
                refine lp_rule (P := fun s : Int × Int => V Γ (σ) 0 0 58 [(0, .ref (a0)), (1, iv (x1)), (3, iv (x3)), (4, iv (x4)), (5, iv (s.1)), (6, iv (v6_1)), (7, iv (s.2))] []) ?_
                intro s z2 h ihb2 ihe2
                obtain ⟨v5_2, v7_2⟩ := s
                have h : f_X1_thirteenths_b58 (σ) (a0) (x1) (x3) (x4) (v6_1) v5_2 v7_2 = some z2 := h
                unfold f_X1_thirteenths_b58 at h
                show V Γ σ 0 0 58 [(0, .ref (a0)), (1, iv (x1)), (3, iv (x3)), (4, iv (x4)), (5, iv (v5_2)), (6, iv (v6_1)), (7, iv (v7_2))] []
                refine r_iload X 6 dX1_thirteenths_58 rfl ?_
                refine r_bipush X dX1_thirteenths_60 (by decide) ?_
                refine r_icmp_ge (tgt := 119) X dX1_thirteenths_62 (by decide) h (fun c17 h => ?_) (fun c17 h => ?_)
                · refine r_iload X 4 dX1_thirteenths_65 rfl ?_
                  refine r_aload_n X 0 dX1_thirteenths_67 rfl rfl ?_
                  refine r_getA (kf := 4) X ho0.1 rfl (by decide) (by decide) (Or.inl q310) dX1_thirteenths_68 ?_
                  refine r_iload_n X 1 dX1_thirteenths_71 rfl rfl ?_
                  refine r_aald X ho0.1 (ho0.2 4 (by decide)) rfl rfl (by decide) rfl (by decide) dX1_thirteenths_72 h (fun b18 h => ?_)
                  refine r_iload X 5 dX1_thirteenths_73 rfl ?_
                  refine r_iload X 6 dX1_thirteenths_75 rfl ?_
                  refine r_bipush X dX1_thirteenths_77 (by decide) ?_
                  obtain ⟨ho20, h⟩ := cO_some h
                  obtain ⟨r21, h19, h⟩ := bd_some h
                  refine r_cV (Wd := 1) X (fun l D sz => w_X2_has l D sz h19) ho20.1 rfl q793 q794 q792 q105 q795 hy_X2_has rfl dX1_thirteenths_79 rfl rfl (Nat.le_of_ble_eq_true rfl) ⟨Nat.le_of_ble_eq_true rfl, Nat.le_of_ble_eq_true rfl⟩ ⟨Nat.le_of_ble_eq_true rfl, Nat.le_of_ble_eq_true rfl⟩ ?_
                  refine r_if_eq (tgt := 109) X dX1_thirteenths_82 (by decide) h (fun c22 h => ?_) (fun c22 h => ?_)
                  · refine r_iconst X dX1_thirteenths_109 ?_
                    refine r_iadd X dX1_thirteenths_110 ?_
                    refine r_istore X dX1_thirteenths_111 (hL 5 (by decide)) (lv' := [(5, iv ((v5_2 + 0))), (0, .ref (a0)), (1, iv (x1)), (3, iv (x3)), (4, iv (x4)), (6, iv (v6_1)), (7, iv (v7_2))]) rfl ?_
                    refine r_iinc X 6 dX1_thirteenths_113 rfl (hL 7 (by decide)) (lv' := [(7, iv ((v7_2 + 1))), (5, iv ((v5_2 + 0))), (0, .ref (a0)), (1, iv (x1)), (3, iv (x3)), (4, iv (x4)), (6, iv (v6_1))]) rfl ?_
                    refine r_goto (tgt := 58) X dX1_thirteenths_116 (by decide) ?_
                    exact V.sub [2, 3, 4, 5, 1, 6, 0] rfl (ihb2 _ (Option.some.inj h).symm)
                  · refine r_aload_n X 0 dX1_thirteenths_85 rfl rfl ?_
                    refine r_getA (kf := 4) X ho0.1 rfl (by decide) (by decide) (Or.inl q310) dX1_thirteenths_86 ?_
                    refine r_iload_n X 1 dX1_thirteenths_89 rfl rfl ?_
                    refine r_aald X ho0.1 (ho0.2 4 (by decide)) rfl rfl (by decide) rfl (by decide) dX1_thirteenths_90 h (fun b23 h => ?_)
                    refine r_iload X 5 dX1_thirteenths_91 rfl ?_
                    refine r_iload X 6 dX1_thirteenths_93 rfl ?_
                    refine r_bipush X dX1_thirteenths_95 (by decide) ?_
                    obtain ⟨ho25, h⟩ := cO_some h
                    obtain ⟨r26, h24, h⟩ := bd_some h
                    refine r_cV (Wd := 1) X (fun l D sz => w_X2_week l D sz h24) ho25.1 rfl q839 q840 q899 q105 q841 hy_X2_week rfl dX1_thirteenths_97 rfl rfl (Nat.le_of_ble_eq_true rfl) ⟨Nat.le_of_ble_eq_true rfl, Nat.le_of_ble_eq_true rfl⟩ ⟨Nat.le_of_ble_eq_true rfl, Nat.le_of_ble_eq_true rfl⟩ ?_
                    refine r_iload X 3 dX1_thirteenths_100 rfl ?_
                    refine r_icmp_ne (tgt := 109) X dX1_thirteenths_102 (by decide) h (fun c27 h => ?_) (fun c27 h => ?_)
                    · refine r_iconst X dX1_thirteenths_105 ?_
                      refine r_goto (tgt := 110) X dX1_thirteenths_106 (by decide) ?_
                      refine r_iadd X dX1_thirteenths_110 ?_
                      refine r_istore X dX1_thirteenths_111 (hL 5 (by decide)) (lv' := [(5, iv ((v5_2 + 1))), (0, .ref (a0)), (1, iv (x1)), (3, iv (x3)), (4, iv (x4)), (6, iv (v6_1)), (7, iv (v7_2))]) rfl ?_
                      refine r_iinc X 6 dX1_thirteenths_113 rfl (hL 7 (by decide)) (lv' := [(7, iv ((v7_2 + 1))), (5, iv ((v5_2 + 1))), (0, .ref (a0)), (1, iv (x1)), (3, iv (x3)), (4, iv (x4)), (6, iv (v6_1))]) rfl ?_
                      refine r_goto (tgt := 58) X dX1_thirteenths_116 (by decide) ?_
                      exact V.sub [2, 3, 4, 5, 1, 6, 0] rfl (ihb2 _ (Option.some.inj h).symm)
                    · refine r_iconst X dX1_thirteenths_109 ?_
                      refine r_iadd X dX1_thirteenths_110 ?_
                      refine r_istore X dX1_thirteenths_111 (hL 5 (by decide)) (lv' := [(5, iv ((v5_2 + 0))), (0, .ref (a0)), (1, iv (x1)), (3, iv (x3)), (4, iv (x4)), (6, iv (v6_1)), (7, iv (v7_2))]) rfl ?_
                      refine r_iinc X 6 dX1_thirteenths_113 rfl (hL 7 (by decide)) (lv' := [(7, iv ((v7_2 + 1))), (5, iv ((v5_2 + 0))), (0, .ref (a0)), (1, iv (x1)), (3, iv (x3)), (4, iv (x4)), (6, iv (v6_1))]) rfl ?_
                      refine r_goto (tgt := 58) X dX1_thirteenths_116 (by decide) ?_
                      exact V.sub [2, 3, 4, 5, 1, 6, 0] rfl (ihb2 _ (Option.some.inj h).symm)
                · have h := ex_some h ihe2
                  refine r_iinc X 5 dX1_thirteenths_119 rfl (hL 6 (by decide)) (lv' := [(6, iv ((v6_1 + 1))), (0, .ref (a0)), (1, iv (x1)), (3, iv (x3)), (4, iv (x4)), (5, iv (v5_2)), (7, iv (v7_2))]) rfl ?_
                  refine r_goto (tgt := 49) X dX1_thirteenths_122 (by decide) ?_
                  exact V.sub [1, 2, 3, 4, 5, 0] rfl (ihb1 _ (Option.some.inj h).symm)
              exact V.sub [1, 2, 3, 4, 5, 6, 0] rfl (L58 (v5_1, 1) h)
          exact V.sub [2, 3, 5, 6, 1, 0] rfl (L49 (0, x2) h)
theorem hy_X1_mates : yX1_mates.cls ≠ "java/lang/invoke/MethodHandle" ∧ yX1_mates.cls ≠ "java/lang/invoke/VarHandle" ∧ (parseMethodDescriptor yX1_mates.desc).map (fun d => d.parameters.length) = some 3 := by decide +kernel
set_option maxHeartbeats 4000000 in
theorem w_X1_mates (l : Launch) (D : DD) (sz : Nat) {σ : St} {a0 : Nat} {x1 : Int} {x2 : Int} {x3 : Int} {w : Int} (h : f_X1_mates σ a0 x1 x2 x3 = some w) : Mt l yX1_mates cX1_mates 6 (some FieldType.int) ({ frames := 9, cells := 0, slots := 0, locals := 139 } : Room) D sz σ [.ref a0, iv (x1), iv (x2), iv (x3)] (.returned (some (iv w))) (σ) 0 0 := by
  refine Mt.of (by decide +kernel) (Nat.le_of_ble_eq_true rfl) ?_
  intro Γ X hr hnl hini hnoh
  have X : Cx Γ cX1_mates "DayBoy" _ := X
  have hL : ∀ i, i < 6 → i < nLc Γ := fun i q => by rw [hnl]; exact q
  show V Γ σ 0 0 0 [(0, .ref (a0)), (1, iv (x1)), (2, iv (x2)), (3, iv (x3))] []
  unfold f_X1_mates at h
  obtain ⟨ho0, h⟩ := cO_some h
  refine r_aload_n X 0 dX1_mates_0 rfl rfl ?_
  refine r_iload_n X 1 dX1_mates_1 rfl rfl ?_
  refine r_iload_n X 2 dX1_mates_2 rfl rfl ?_
  refine r_iload_n X 3 dX1_mates_3 rfl rfl ?_
  refine r_iconst X dX1_mates_4 ?_
  obtain ⟨r2, h1, h⟩ := bd_some h
  refine r_cV (Wd := 0) X (fun l D sz => w_X1_isDate l D sz h1) ho0.1 rfl q790 qs24 q788 q104 q791 hy_X1_isDate rfl dX1_mates_5 rfl rfl (Nat.le_of_ble_eq_true rfl) ⟨Nat.le_of_ble_eq_true rfl, Nat.le_of_ble_eq_true rfl⟩ ⟨Nat.le_of_ble_eq_true rfl, Nat.le_of_ble_eq_true rfl⟩ ?_
  refine r_if_ne (tgt := 13) X dX1_mates_8 (by decide) h (fun c3 h => ?_) (fun c3 h => ?_)
  · refine r_iconst X dX1_mates_11 ?_
    cases h
    exact r_iret X hr dX1_mates_12
  · refine r_iconst X dX1_mates_13 ?_
    refine r_istore X dX1_mates_14 (hL 4 (by decide)) (lv' := [(4, iv (0)), (0, .ref (a0)), (1, iv (x1)), (2, iv (x2)), (3, iv (x3))]) rfl ?_
    refine r_iconst X dX1_mates_16 ?_
    refine r_istore X dX1_mates_17 (hL 5 (by decide)) (lv' := [(5, iv (1)), (4, iv (0)), (0, .ref (a0)), (1, iv (x1)), (2, iv (x2)), (3, iv (x3))]) rfl ?_
    have L19 : ∀ s : Int × Int, lp (fun s => f_X1_mates_b19 (σ) (a0) (x1) (x2) (x3) s.1 s.2) s = some w → V Γ (σ) 0 0 19 [(0, .ref (a0)), (1, iv (x1)), (2, iv (x2)), (3, iv (x3)), (4, iv (s.1)), (5, iv (s.2))] [] := by
      refine lp_rule (P := fun s : Int × Int => V Γ (σ) 0 0 19 [(0, .ref (a0)), (1, iv (x1)), (2, iv (x2)), (3, iv (x3)), (4, iv (s.1)), (5, iv (s.2))] []) ?_
      intro s z1 h ihb1 ihe1
      obtain ⟨v4_1, v5_1⟩ := s
      have h : f_X1_mates_b19 (σ) (a0) (x1) (x2) (x3) v4_1 v5_1 = some z1 := h
      unfold f_X1_mates_b19 at h
      show V Γ σ 0 0 19 [(0, .ref (a0)), (1, iv (x1)), (2, iv (x2)), (3, iv (x3)), (4, iv (v4_1)), (5, iv (v5_1))] []
      refine r_iload X 5 dX1_mates_19 rfl ?_
      refine r_bipush X dX1_mates_21 (by decide) ?_
      refine r_icmp_ge (tgt := 63) X dX1_mates_23 (by decide) h (fun c4 h => ?_) (fun c4 h => ?_)
      · refine r_iload X 4 dX1_mates_26 rfl ?_
        refine r_aload_n X 0 dX1_mates_28 rfl rfl ?_
        refine r_getA (kf := 4) X ho0.1 rfl (by decide) (by decide) (Or.inl q310) dX1_mates_29 ?_
        refine r_iload_n X 1 dX1_mates_32 rfl rfl ?_
        refine r_aald X ho0.1 (ho0.2 4 (by decide)) rfl rfl (by decide) rfl (by decide) dX1_mates_33 h (fun b5 h => ?_)
        refine r_iload_n X 2 dX1_mates_34 rfl rfl ?_
        refine r_iload_n X 3 dX1_mates_35 rfl rfl ?_
        refine r_iload X 5 dX1_mates_36 rfl ?_
        obtain ⟨r7, h6, h⟩ := bd_some h
        refine r_cS (Wd := 1) X (fun l D sz => w_X1_areAlike l D sz h6) q911 q910 q104 q912 hy_X1_areAlike rfl dX1_mates_38 rfl rfl (Nat.le_of_ble_eq_true rfl) ⟨Nat.le_of_ble_eq_true rfl, Nat.le_of_ble_eq_true rfl⟩ ⟨Nat.le_of_ble_eq_true rfl, Nat.le_of_ble_eq_true rfl⟩ ?_
        refine r_if_eq (tgt := 53) X dX1_mates_41 (by decide) h (fun c8 h => ?_) (fun c8 h => ?_)
        · refine r_iconst X dX1_mates_53 ?_
          refine r_ior X dX1_mates_54 ?_
          refine r_istore X dX1_mates_55 (hL 4 (by decide)) (lv' := [(4, iv ((bOr (v4_1) (0)))), (0, .ref (a0)), (1, iv (x1)), (2, iv (x2)), (3, iv (x3)), (5, iv (v5_1))]) rfl ?_
          refine r_iinc X 5 dX1_mates_57 rfl (hL 5 (by decide)) (lv' := [(5, iv ((v5_1 + 1))), (4, iv ((bOr (v4_1) (0)))), (0, .ref (a0)), (1, iv (x1)), (2, iv (x2)), (3, iv (x3))]) rfl ?_
          refine r_goto (tgt := 19) X dX1_mates_60 (by decide) ?_
          exact V.sub [2, 3, 4, 5, 1, 0] rfl (ihb1 _ (Option.some.inj h).symm)
        · refine r_iconst X dX1_mates_44 ?_
          refine r_iload X 5 dX1_mates_45 rfl ?_
          refine r_iconst X dX1_mates_47 ?_
          refine r_isub X dX1_mates_48 ?_
          refine r_ishl X dX1_mates_49 ?_
          refine r_goto (tgt := 54) X dX1_mates_50 (by decide) ?_
          refine r_ior X dX1_mates_54 ?_
          refine r_istore X dX1_mates_55 (hL 4 (by decide)) (lv' := [(4, iv ((bOr (v4_1) ((bShl (1) ((v5_1 - 1))))))), (0, .ref (a0)), (1, iv (x1)), (2, iv (x2)), (3, iv (x3)), (5, iv (v5_1))]) rfl ?_
          refine r_iinc X 5 dX1_mates_57 rfl (hL 5 (by decide)) (lv' := [(5, iv ((v5_1 + 1))), (4, iv ((bOr (v4_1) ((bShl (1) ((v5_1 - 1))))))), (0, .ref (a0)), (1, iv (x1)), (2, iv (x2)), (3, iv (x3))]) rfl ?_
          refine r_goto (tgt := 19) X dX1_mates_60 (by decide) ?_
          exact V.sub [2, 3, 4, 5, 1, 0] rfl (ihb1 _ (Option.some.inj h).symm)
      · have h := ex_some h ihe1
        refine r_iload X 4 dX1_mates_63 rfl ?_
        cases h
        exact r_iret X hr dX1_mates_65
    exact V.sub [2, 3, 4, 5, 1, 0] rfl (L19 (0, 1) h)
theorem hy_X1_event : yX1_event.cls ≠ "java/lang/invoke/MethodHandle" ∧ yX1_event.cls ≠ "java/lang/invoke/VarHandle" ∧ (parseMethodDescriptor yX1_event.desc).map (fun d => d.parameters.length) = some 5 := by decide +kernel
set_option maxHeartbeats 4000000 in
theorem w_X1_event (l : Launch) (D : DD) (sz : Nat) {σ : St} {a0 : Nat} {x1 : Int} {x2 : Int} {x3 : Int} {x4 : Int} {x5 : Int} {w : Int × St} (h : f_X1_event σ a0 x1 x2 x3 x4 x5 = some w) : Mt l yX1_event cX1_event 6 (some FieldType.int) ({ frames := 8, cells := 0, slots := 0, locals := 123 } : Room) D sz σ [.ref a0, iv (x1), iv (x2), iv (x3), iv (x4), iv (x5)] (.returned (some (iv w.1))) (w.2) 0 0 := by
  refine Mt.of (by decide +kernel) (Nat.le_of_ble_eq_true rfl) ?_
  intro Γ X hr hnl hini hnoh
  have X : Cx Γ cX1_event "DayBoy" _ := X
  have hL : ∀ i, i < 6 → i < nLc Γ := fun i q => by rw [hnl]; exact q
  show V Γ σ 0 0 0 [(0, .ref (a0)), (1, iv (x1)), (2, iv (x2)), (3, iv (x3)), (4, iv (x4)), (5, iv (x5))] []
  unfold f_X1_event at h
  obtain ⟨ho0, h⟩ := cO_some h
  refine r_aload_n X 0 dX1_event_0 rfl rfl ?_
  refine r_getI (kf := 25) X ho0.1 rfl (by decide) rfl (Or.inl q332) dX1_event_1 ?_
  refine r_bipush X dX1_event_4 (by decide) ?_
  refine r_icmp_eq (tgt := 34) X dX1_event_6 (by decide) h (fun c1 h => ?_) (fun c1 h => ?_)
  · refine r_iconst X dX1_event_34 ?_
    cases h
    exact r_iret X hr dX1_event_35
  · refine r_aload_n X 0 dX1_event_9 rfl rfl ?_
    refine r_iload_n X 1 dX1_event_10 rfl rfl ?_
    refine r_iload_n X 2 dX1_event_11 rfl rfl ?_
    refine r_iload_n X 3 dX1_event_12 rfl rfl ?_
    refine r_iload X 4 dX1_event_13 rfl ?_
    obtain ⟨r3, h2, h⟩ := bd_some h
    refine r_cV (Wd := 0) X (fun l D sz => w_X1_isDate l D sz h2) ho0.1 rfl q790 qs24 q788 q104 q791 hy_X1_isDate rfl dX1_event_15 rfl rfl (Nat.le_of_ble_eq_true rfl) ⟨Nat.le_of_ble_eq_true rfl, Nat.le_of_ble_eq_true rfl⟩ ⟨Nat.le_of_ble_eq_true rfl, Nat.le_of_ble_eq_true rfl⟩ ?_
    refine r_if_eq (tgt := 34) X dX1_event_18 (by decide) h (fun c4 h => ?_) (fun c4 h => ?_)
    · refine r_iconst X dX1_event_34 ?_
      cases h
      exact r_iret X hr dX1_event_35
    · refine r_iload X 5 dX1_event_21 rfl ?_
      obtain ⟨c5, h⟩ := ck_some h
      refine r_i2l X dX1_event_23 c5 ?_
      refine r_lconst (y := 0) X dX1_event_24 rfl ?_
      refine r_ldc2 (z := 3) X q753 dX1_event_25 rfl ?_
      obtain ⟨r7, h6, h⟩ := bd_some h
      refine r_cS (Wd := 0) X (fun l D sz => w_X1_isIn l D sz h6) q414 q413 q104 q415 hy_X1_isIn rfl dX1_event_28 rfl rfl (Nat.le_of_ble_eq_true rfl) ⟨Nat.le_of_ble_eq_true rfl, Nat.le_of_ble_eq_true rfl⟩ ⟨Nat.le_of_ble_eq_true rfl, Nat.le_of_ble_eq_true rfl⟩ ?_
      refine r_if_ne (tgt := 36) X dX1_event_31 (by decide) h (fun c8 h => ?_) (fun c8 h => ?_)
      · refine r_iconst X dX1_event_34 ?_
        cases h
        exact r_iret X hr dX1_event_35
      · refine r_aload_n X 0 dX1_event_36 rfl rfl ?_
        refine r_getA (kf := 23) X ho0.1 rfl (by decide) (by decide) (Or.inl q330) dX1_event_37 ?_
        refine r_aload_n X 0 dX1_event_40 rfl rfl ?_
        refine r_getI (kf := 25) X ho0.1 rfl (by decide) rfl (Or.inl q332) dX1_event_41 ?_
        refine r_aload_n X 0 dX1_event_44 rfl rfl ?_
        refine r_getA (kf := 4) X ho0.1 rfl (by decide) (by decide) (Or.inl q310) dX1_event_45 ?_
        refine r_iload_n X 1 dX1_event_48 rfl rfl ?_
        refine r_aald X ho0.1 (ho0.2 4 (by decide)) rfl rfl (by decide) rfl (by decide) dX1_event_49 h (fun b9 h => ?_)
        refine r_iload_n X 2 dX1_event_50 rfl rfl ?_
        refine r_iload_n X 3 dX1_event_51 rfl rfl ?_
        refine r_iload X 4 dX1_event_52 rfl ?_
        obtain ⟨ho11, h⟩ := cO_some h
        obtain ⟨r12, h10, h⟩ := bd_some h
        refine r_cV (Wd := 2) X (fun l D sz => w_X2_day l D sz h10) ho11.1 rfl q811 q812 q810 q105 q813 hy_X2_day rfl dX1_event_54 rfl rfl (by simp only [List.map_cons, List.map_nil, cat_rf, cat_iv, cat_jv, cat_ref, List.sum_cons, List.sum_nil]; decide) ⟨Nat.le_of_ble_eq_true rfl, Nat.le_of_ble_eq_true rfl⟩ ⟨Nat.le_of_ble_eq_true rfl, Nat.le_of_ble_eq_true rfl⟩ ?_
        refine r_iast X ho0.1 (ho0.2 23 (by decide)) rfl rfl rfl (by decide) dX1_event_57 h (fun h => ?_)
        refine r_let h (fun σ13 eσ13 h => ?_)
        refine r_aload_n X 0 dX1_event_58 rfl rfl ?_
        have hk14 : oc σ13 (a0) 0 := by rw [eσ13]; exact ho0
        refine r_getA (kf := 24) X hk14.1 rfl (by decide) (by decide) (Or.inl q331) dX1_event_59 ?_
        refine r_aload_n X 0 dX1_event_62 rfl rfl ?_
        refine r_getI (kf := 25) X hk14.1 rfl (by decide) rfl (Or.inl q332) dX1_event_63 ?_
        refine r_iload X 5 dX1_event_66 rfl ?_
        refine r_iast X hk14.1 (hk14.2 24 (by decide)) rfl rfl rfl (by decide) dX1_event_68 h (fun h => ?_)
        refine r_let h (fun σ15 eσ15 h => ?_)
        refine r_aload_n X 0 dX1_event_69 rfl rfl ?_
        refine r_dup X dX1_event_70 rfl ?_
        have hk16 : oc σ15 (a0) 0 := by rw [eσ15]; exact hk14
        refine r_getI (kf := 25) X hk16.1 rfl (by decide) rfl (Or.inl q332) dX1_event_71 ?_
        refine r_iconst X dX1_event_74 ?_
        refine r_iadd X dX1_event_75 ?_
        refine r_putI (kf := 25) X hk16.1 rfl (by decide) rfl rfl (Or.inl q332) dX1_event_76 rfl ?_
        refine r_let h (fun σ17 eσ17 h => ?_)
        refine r_aload_n X 0 dX1_event_79 rfl rfl ?_
        have hk18 : oc σ17 (a0) 0 := by rw [eσ17]; exact hk16
        refine r_getI (kf := 25) X hk18.1 rfl (by decide) rfl (Or.inl q332) dX1_event_80 ?_
        cases h
        exact r_iret X hr dX1_event_83
theorem hy_X1_holds : yX1_holds.cls ≠ "java/lang/invoke/MethodHandle" ∧ yX1_holds.cls ≠ "java/lang/invoke/VarHandle" ∧ (parseMethodDescriptor yX1_holds.desc).map (fun d => d.parameters.length) = some 2 := by decide +kernel
set_option maxHeartbeats 4000000 in
theorem w_X1_holds (l : Launch) (D : DD) (sz : Nat) {σ : St} {a0 : Nat} {x1 : Int} {x2 : Int} {w : Int} (h : f_X1_holds σ a0 x1 x2 = some w) : Mt l yX1_holds cX1_holds 4 (some FieldType.boolean) ({ frames := 0, cells := 0, slots := 0, locals := 0 } : Room) D sz σ [.ref a0, iv (x1), iv (x2)] (.returned (some (iv w))) (σ) 0 0 := by
  refine Mt.of (by decide +kernel) (Nat.le_of_ble_eq_true rfl) ?_
  intro Γ X hr hnl hini hnoh
  have X : Cx Γ cX1_holds "DayBoy" _ := X
  have hL : ∀ i, i < 4 → i < nLc Γ := fun i q => by rw [hnl]; exact q
  show V Γ σ 0 0 0 [(0, .ref (a0)), (1, iv (x1)), (2, iv (x2))] []
  unfold f_X1_holds at h
  obtain ⟨ho0, h⟩ := cO_some h
  refine r_iconst X dX1_holds_0 ?_
  refine r_istore_n X dX1_holds_1 rfl (hL 3 (by decide)) (lv' := [(3, iv (0)), (0, .ref (a0)), (1, iv (x1)), (2, iv (x2))]) rfl ?_
  have L2 : ∀ s : Int, lp (fun s => f_X1_holds_b2 (σ) (a0) (x1) (x2) s) s = some w → V Γ (σ) 0 0 2 [(0, .ref (a0)), (1, iv (x1)), (2, iv (x2)), (3, iv (s))] [] := by
    refine lp_rule (P := fun s : Int => V Γ (σ) 0 0 2 [(0, .ref (a0)), (1, iv (x1)), (2, iv (x2)), (3, iv (s))] []) ?_
    intro s z1 h ihb1 ihe1
    obtain ⟨v3_1, es⟩ : ∃ q, q = s := ⟨s, rfl⟩
    subst es
    have h : f_X1_holds_b2 (σ) (a0) (x1) (x2) v3_1 = some z1 := h
    unfold f_X1_holds_b2 at h
    show V Γ σ 0 0 2 [(0, .ref (a0)), (1, iv (x1)), (2, iv (x2)), (3, iv (v3_1))] []
    refine r_iload_n X 3 dX1_holds_2 rfl rfl ?_
    refine r_aload_n X 0 dX1_holds_3 rfl rfl ?_
    refine r_getI (kf := 25) X ho0.1 rfl (by decide) rfl (Or.inl q332) dX1_holds_4 ?_
    refine r_icmp_ge (tgt := 38) X dX1_holds_7 (by decide) h (fun c1 h => ?_) (fun c1 h => ?_)
    · refine r_aload_n X 0 dX1_holds_10 rfl rfl ?_
      refine r_getA (kf := 23) X ho0.1 rfl (by decide) (by decide) (Or.inl q330) dX1_holds_11 ?_
      refine r_iload_n X 3 dX1_holds_14 rfl rfl ?_
      refine r_iald X ho0.1 (ho0.2 23 (by decide)) rfl rfl rfl (by decide) dX1_holds_15 h (fun h => ?_)
      refine r_iload_n X 1 dX1_holds_16 rfl rfl ?_
      refine r_icmp_ne (tgt := 32) X dX1_holds_17 (by decide) h (fun c2 h => ?_) (fun c2 h => ?_)
      · refine r_aload_n X 0 dX1_holds_20 rfl rfl ?_
        refine r_getA (kf := 24) X ho0.1 rfl (by decide) (by decide) (Or.inl q331) dX1_holds_21 ?_
        refine r_iload_n X 3 dX1_holds_24 rfl rfl ?_
        refine r_iald X ho0.1 (ho0.2 24 (by decide)) rfl rfl rfl (by decide) dX1_holds_25 h (fun h => ?_)
        refine r_iload_n X 2 dX1_holds_26 rfl rfl ?_
        refine r_icmp_ne (tgt := 32) X dX1_holds_27 (by decide) h (fun c3 h => ?_) (fun c3 h => ?_)
        · have h := ex_some h ihe1
          refine r_iconst X dX1_holds_30 ?_
          cases h
          exact r_zret X hr (by decide) dX1_holds_31
        · refine r_iinc X 3 dX1_holds_32 rfl (hL 3 (by decide)) (lv' := [(3, iv ((v3_1 + 1))), (0, .ref (a0)), (1, iv (x1)), (2, iv (x2))]) rfl ?_
          refine r_goto (tgt := 2) X dX1_holds_35 (by decide) ?_
          exact V.sub [1, 2, 3, 0] rfl (ihb1 _ (Option.some.inj h).symm)
      · refine r_iinc X 3 dX1_holds_32 rfl (hL 3 (by decide)) (lv' := [(3, iv ((v3_1 + 1))), (0, .ref (a0)), (1, iv (x1)), (2, iv (x2))]) rfl ?_
        refine r_goto (tgt := 2) X dX1_holds_35 (by decide) ?_
        exact V.sub [1, 2, 3, 0] rfl (ihb1 _ (Option.some.inj h).symm)
    · have h := ex_some h ihe1
      refine r_iconst X dX1_holds_38 ?_
      cases h
      exact r_zret X hr (by decide) dX1_holds_39
  exact V.sub [1, 2, 3, 0] rfl (L2 (0) h)
theorem hy_X1_held : yX1_held.cls ≠ "java/lang/invoke/MethodHandle" ∧ yX1_held.cls ≠ "java/lang/invoke/VarHandle" ∧ (parseMethodDescriptor yX1_held.desc).map (fun d => d.parameters.length) = some 4 := by decide +kernel
set_option maxHeartbeats 4000000 in
theorem w_X1_held (l : Launch) (D : DD) (sz : Nat) {σ : St} {a0 : Nat} {x1 : Int} {x2 : Int} {x3 : Int} {x4 : Int} {w : Int} (h : f_X1_held σ a0 x1 x2 x3 x4 = some w) : Mt l yX1_held cX1_held 7 (some FieldType.int) ({ frames := 8, cells := 0, slots := 0, locals := 123 } : Room) D sz σ [.ref a0, iv (x1), iv (x2), iv (x3), iv (x4)] (.returned (some (iv w))) (σ) 0 0 := by
  refine Mt.of (by decide +kernel) (Nat.le_of_ble_eq_true rfl) ?_
  intro Γ X hr hnl hini hnoh
  have X : Cx Γ cX1_held "DayBoy" _ := X
  have hL : ∀ i, i < 7 → i < nLc Γ := fun i q => by rw [hnl]; exact q
  show V Γ σ 0 0 0 [(0, .ref (a0)), (1, iv (x1)), (2, iv (x2)), (3, iv (x3)), (4, iv (x4))] []
  unfold f_X1_held at h
  obtain ⟨ho0, h⟩ := cO_some h
  refine r_aload_n X 0 dX1_held_0 rfl rfl ?_
  refine r_iload_n X 1 dX1_held_1 rfl rfl ?_
  refine r_iload_n X 2 dX1_held_2 rfl rfl ?_
  refine r_iload_n X 3 dX1_held_3 rfl rfl ?_
  refine r_iload X 4 dX1_held_4 rfl ?_
  obtain ⟨r2, h1, h⟩ := bd_some h
  refine r_cV (Wd := 0) X (fun l D sz => w_X1_isDate l D sz h1) ho0.1 rfl q790 qs24 q788 q104 q791 hy_X1_isDate rfl dX1_held_6 rfl rfl (Nat.le_of_ble_eq_true rfl) ⟨Nat.le_of_ble_eq_true rfl, Nat.le_of_ble_eq_true rfl⟩ ⟨Nat.le_of_ble_eq_true rfl, Nat.le_of_ble_eq_true rfl⟩ ?_
  refine r_if_ne (tgt := 14) X dX1_held_9 (by decide) h (fun c3 h => ?_) (fun c3 h => ?_)
  · refine r_iconst X dX1_held_12 ?_
    cases h
    exact r_iret X hr dX1_held_13
  · refine r_iconst X dX1_held_14 ?_
    refine r_istore X dX1_held_15 (hL 5 (by decide)) (lv' := [(5, iv (0)), (0, .ref (a0)), (1, iv (x1)), (2, iv (x2)), (3, iv (x3)), (4, iv (x4))]) rfl ?_
    refine r_iconst X dX1_held_17 ?_
    refine r_istore X dX1_held_18 (hL 6 (by decide)) (lv' := [(6, iv (0)), (5, iv (0)), (0, .ref (a0)), (1, iv (x1)), (2, iv (x2)), (3, iv (x3)), (4, iv (x4))]) rfl ?_
    have L20 : ∀ s : Int × Int, lp (fun s => f_X1_held_b20 (σ) (a0) (x1) (x2) (x3) (x4) s.1 s.2) s = some w → V Γ (σ) 0 0 20 [(0, .ref (a0)), (1, iv (x1)), (2, iv (x2)), (3, iv (x3)), (4, iv (x4)), (5, iv (s.1)), (6, iv (s.2))] [] := by
      refine lp_rule (P := fun s : Int × Int => V Γ (σ) 0 0 20 [(0, .ref (a0)), (1, iv (x1)), (2, iv (x2)), (3, iv (x3)), (4, iv (x4)), (5, iv (s.1)), (6, iv (s.2))] []) ?_
      intro s z1 h ihb1 ihe1
      obtain ⟨v5_1, v6_1⟩ := s
      have h : f_X1_held_b20 (σ) (a0) (x1) (x2) (x3) (x4) v5_1 v6_1 = some z1 := h
      unfold f_X1_held_b20 at h
      show V Γ σ 0 0 20 [(0, .ref (a0)), (1, iv (x1)), (2, iv (x2)), (3, iv (x3)), (4, iv (x4)), (5, iv (v5_1)), (6, iv (v6_1))] []
      refine r_iload X 6 dX1_held_20 rfl ?_
      refine r_iconst X dX1_held_22 ?_
      refine r_icmp_ge (tgt := 67) X dX1_held_23 (by decide) h (fun c4 h => ?_) (fun c4 h => ?_)
      · refine r_iload X 5 dX1_held_26 rfl ?_
        refine r_aload_n X 0 dX1_held_28 rfl rfl ?_
        refine r_aload_n X 0 dX1_held_29 rfl rfl ?_
        refine r_getA (kf := 4) X ho0.1 rfl (by decide) (by decide) (Or.inl q310) dX1_held_30 ?_
        refine r_iload_n X 1 dX1_held_33 rfl rfl ?_
        refine r_aald X ho0.1 (ho0.2 4 (by decide)) rfl rfl (by decide) rfl (by decide) dX1_held_34 h (fun b5 h => ?_)
        refine r_iload_n X 2 dX1_held_35 rfl rfl ?_
        refine r_iload_n X 3 dX1_held_36 rfl rfl ?_
        refine r_iload X 4 dX1_held_37 rfl ?_
        obtain ⟨ho7, h⟩ := cO_some h
        obtain ⟨r8, h6, h⟩ := bd_some h
        refine r_cV (Wd := 2) X (fun l D sz => w_X2_day l D sz h6) ho7.1 rfl q811 q812 q810 q105 q813 hy_X2_day rfl dX1_held_39 rfl rfl (Nat.le_of_ble_eq_true rfl) ⟨Nat.le_of_ble_eq_true rfl, Nat.le_of_ble_eq_true rfl⟩ ⟨Nat.le_of_ble_eq_true rfl, Nat.le_of_ble_eq_true rfl⟩ ?_
        refine r_iload X 6 dX1_held_42 rfl ?_
        obtain ⟨r10, h9, h⟩ := bd_some h
        refine r_cV (Wd := 1) X (fun l D sz => w_X1_holds l D sz h9) ho0.1 rfl q1121 qs40 q1119 q104 q1122 hy_X1_holds rfl dX1_held_44 rfl rfl (Nat.le_of_ble_eq_true rfl) ⟨Nat.le_of_ble_eq_true rfl, Nat.le_of_ble_eq_true rfl⟩ ⟨Nat.le_of_ble_eq_true rfl, Nat.le_of_ble_eq_true rfl⟩ ?_
        refine r_if_eq (tgt := 57) X dX1_held_47 (by decide) h (fun c11 h => ?_) (fun c11 h => ?_)
        · refine r_iconst X dX1_held_57 ?_
          refine r_ior X dX1_held_58 ?_
          refine r_istore X dX1_held_59 (hL 5 (by decide)) (lv' := [(5, iv ((bOr (v5_1) (0)))), (0, .ref (a0)), (1, iv (x1)), (2, iv (x2)), (3, iv (x3)), (4, iv (x4)), (6, iv (v6_1))]) rfl ?_
          refine r_iinc X 6 dX1_held_61 rfl (hL 6 (by decide)) (lv' := [(6, iv ((v6_1 + 1))), (5, iv ((bOr (v5_1) (0)))), (0, .ref (a0)), (1, iv (x1)), (2, iv (x2)), (3, iv (x3)), (4, iv (x4))]) rfl ?_
          refine r_goto (tgt := 20) X dX1_held_64 (by decide) ?_
          exact V.sub [2, 3, 4, 5, 6, 1, 0] rfl (ihb1 _ (Option.some.inj h).symm)
        · refine r_iconst X dX1_held_50 ?_
          refine r_iload X 6 dX1_held_51 rfl ?_
          refine r_ishl X dX1_held_53 ?_
          refine r_goto (tgt := 58) X dX1_held_54 (by decide) ?_
          refine r_ior X dX1_held_58 ?_
          refine r_istore X dX1_held_59 (hL 5 (by decide)) (lv' := [(5, iv ((bOr (v5_1) ((bShl (1) (v6_1)))))), (0, .ref (a0)), (1, iv (x1)), (2, iv (x2)), (3, iv (x3)), (4, iv (x4)), (6, iv (v6_1))]) rfl ?_
          refine r_iinc X 6 dX1_held_61 rfl (hL 6 (by decide)) (lv' := [(6, iv ((v6_1 + 1))), (5, iv ((bOr (v5_1) ((bShl (1) (v6_1)))))), (0, .ref (a0)), (1, iv (x1)), (2, iv (x2)), (3, iv (x3)), (4, iv (x4))]) rfl ?_
          refine r_goto (tgt := 20) X dX1_held_64 (by decide) ?_
          exact V.sub [2, 3, 4, 5, 6, 1, 0] rfl (ihb1 _ (Option.some.inj h).symm)
      · have h := ex_some h ihe1
        refine r_iload X 5 dX1_held_67 rfl ?_
        cases h
        exact r_iret X hr dX1_held_69
    exact V.sub [2, 3, 4, 5, 6, 1, 0] rfl (L20 (0, 0) h)
theorem hy_X1_spell : yX1_spell.cls ≠ "java/lang/invoke/MethodHandle" ∧ yX1_spell.cls ≠ "java/lang/invoke/VarHandle" ∧ (parseMethodDescriptor yX1_spell.desc).map (fun d => d.parameters.length) = some 1 := by decide +kernel
set_option maxHeartbeats 4000000 in
theorem w_X1_spell (l : Launch) (D : DD) (sz : Nat) {σ : St} {a0 : Nat} {x1 : Int} {w : Int} (h : f_X1_spell σ a0 x1 = some w) : Mt l yX1_spell cX1_spell 5 (some FieldType.int) ({ frames := 1, cells := 0, slots := 0, locals := 17 } : Room) D sz σ [.ref a0, iv (x1)] (.returned (some (iv w))) (σ) 0 0 := by
  refine Mt.of (by decide +kernel) (Nat.le_of_ble_eq_true rfl) ?_
  intro Γ X hr hnl hini hnoh
  have X : Cx Γ cX1_spell "DayBoy" _ := X
  have hL : ∀ i, i < 5 → i < nLc Γ := fun i q => by rw [hnl]; exact q
  show V Γ σ 0 0 0 [(0, .ref (a0)), (1, iv (x1))] []
  unfold f_X1_spell at h
  obtain ⟨ho0, h⟩ := cO_some h
  refine r_iload_n X 1 dX1_spell_0 rfl rfl ?_
  obtain ⟨c1, h⟩ := ck_some h
  refine r_i2l X dX1_spell_1 c1 ?_
  refine r_lconst (y := 0) X dX1_spell_2 rfl ?_
  refine r_ldc2 (z := 3) X q753 dX1_spell_3 rfl ?_
  obtain ⟨r3, h2, h⟩ := bd_some h
  refine r_cS (Wd := 0) X (fun l D sz => w_X1_isIn l D sz h2) q414 q413 q104 q415 hy_X1_isIn rfl dX1_spell_6 rfl rfl (Nat.le_of_ble_eq_true rfl) ⟨Nat.le_of_ble_eq_true rfl, Nat.le_of_ble_eq_true rfl⟩ ⟨Nat.le_of_ble_eq_true rfl, Nat.le_of_ble_eq_true rfl⟩ ?_
  refine r_if_ne (tgt := 14) X dX1_spell_9 (by decide) h (fun c4 h => ?_) (fun c4 h => ?_)
  · refine r_iconst X dX1_spell_12 ?_
    cases h
    exact r_iret X hr dX1_spell_13
  · refine r_iconst X dX1_spell_14 ?_
    refine r_istore_n X dX1_spell_15 rfl (hL 2 (by decide)) (lv' := [(2, iv (0)), (0, .ref (a0)), (1, iv (x1))]) rfl ?_
    refine r_iconst X dX1_spell_16 ?_
    refine r_istore_n X dX1_spell_17 rfl (hL 3 (by decide)) (lv' := [(3, iv (0)), (2, iv (0)), (0, .ref (a0)), (1, iv (x1))]) rfl ?_
    have L18 : ∀ s : Int × Int, lp (fun s => f_X1_spell_b18 (σ) (a0) (x1) s.1 s.2) s = some w → V Γ (σ) 0 0 18 [(0, .ref (a0)), (1, iv (x1)), (2, iv (s.1)), (3, iv (s.2))] [] := by
      refine lp_rule (P := fun s : Int × Int => V Γ (σ) 0 0 18 [(0, .ref (a0)), (1, iv (x1)), (2, iv (s.1)), (3, iv (s.2))] []) ?_
      intro s z1 h ihb1 ihe1
      obtain ⟨v2_1, v3_1⟩ := s
      have h : f_X1_spell_b18 (σ) (a0) (x1) v2_1 v3_1 = some z1 := h
      unfold f_X1_spell_b18 at h
      show V Γ σ 0 0 18 [(0, .ref (a0)), (1, iv (x1)), (2, iv (v2_1)), (3, iv (v3_1))] []
      refine r_iload_n X 3 dX1_spell_18 rfl rfl ?_
      refine r_aload_n X 0 dX1_spell_19 rfl rfl ?_
      refine r_getI (kf := 25) X ho0.1 rfl (by decide) rfl (Or.inl q332) dX1_spell_20 ?_
      refine r_icmp_ge (tgt := 65) X dX1_spell_23 (by decide) h (fun c5 h => ?_) (fun c5 h => ?_)
      · refine r_iconst X dX1_spell_26 ?_
        refine r_istore X dX1_spell_27 (hL 4 (by decide)) (lv' := [(4, iv (0)), (0, .ref (a0)), (1, iv (x1)), (2, iv (v2_1)), (3, iv (v3_1))]) rfl ?_
        have L29 : ∀ s : Int, lp (fun s => f_X1_spell_b29 (σ) (a0) (x1) (v2_1) (v3_1) s) s = some z1 → V Γ (σ) 0 0 29 [(0, .ref (a0)), (1, iv (x1)), (2, iv (v2_1)), (3, iv (v3_1)), (4, iv (s))] [] := by
          refine lp_rule (P := fun s : Int => V Γ (σ) 0 0 29 [(0, .ref (a0)), (1, iv (x1)), (2, iv (v2_1)), (3, iv (v3_1)), (4, iv (s))] []) ?_
          intro s z2 h ihb2 ihe2
          obtain ⟨v4_2, es⟩ : ∃ q, q = s := ⟨s, rfl⟩
          subst es
          have h : f_X1_spell_b29 (σ) (a0) (x1) (v2_1) (v3_1) v4_2 = some z2 := h
          unfold f_X1_spell_b29 at h
          show V Γ σ 0 0 29 [(0, .ref (a0)), (1, iv (x1)), (2, iv (v2_1)), (3, iv (v3_1)), (4, iv (v4_2))] []
          refine r_aload_n X 0 dX1_spell_29 rfl rfl ?_
          refine r_aload_n X 0 dX1_spell_30 rfl rfl ?_
          refine r_getA (kf := 23) X ho0.1 rfl (by decide) (by decide) (Or.inl q330) dX1_spell_31 ?_
          refine r_iload_n X 3 dX1_spell_34 rfl rfl ?_
          refine r_iald X ho0.1 (ho0.2 23 (by decide)) rfl rfl rfl (by decide) dX1_spell_35 h (fun h => ?_)
          refine r_iload X 4 dX1_spell_36 rfl ?_
          refine r_iadd X dX1_spell_38 ?_
          refine r_iload_n X 1 dX1_spell_39 rfl rfl ?_
          obtain ⟨r7, h6, h⟩ := bd_some h
          refine r_cV (Wd := 0) X (fun l D sz => w_X1_holds l D sz h6) ho0.1 rfl q1121 qs40 q1119 q104 q1122 hy_X1_holds rfl dX1_spell_40 rfl rfl (Nat.le_of_ble_eq_true rfl) ⟨Nat.le_of_ble_eq_true rfl, Nat.le_of_ble_eq_true rfl⟩ ⟨Nat.le_of_ble_eq_true rfl, Nat.le_of_ble_eq_true rfl⟩ ?_
          refine r_if_eq (tgt := 52) X dX1_spell_43 (by decide) h (fun c8 h => ?_) (fun c8 h => ?_)
          · have h := ex_some h ihe2
            refine r_iload_n X 2 dX1_spell_52 rfl rfl ?_
            refine r_iload X 4 dX1_spell_53 rfl ?_
            obtain ⟨r10, h9, h⟩ := bd_some h
            refine r_cS (Wd := 0) X (fun l D sz => w_J3_max l D sz h9) q1128 q1127 q115 q1129 hy_J3_max rfl dX1_spell_55 rfl rfl (Nat.le_of_ble_eq_true rfl) ⟨Nat.le_of_ble_eq_true rfl, Nat.le_of_ble_eq_true rfl⟩ ⟨Nat.le_of_ble_eq_true rfl, Nat.le_of_ble_eq_true rfl⟩ ?_
            refine r_istore_n X dX1_spell_58 rfl (hL 2 (by decide)) (lv' := [(2, iv (r10)), (0, .ref (a0)), (1, iv (x1)), (3, iv (v3_1)), (4, iv (v4_2))]) rfl ?_
            refine r_iinc X 3 dX1_spell_59 rfl (hL 3 (by decide)) (lv' := [(3, iv ((v3_1 + 1))), (2, iv (r10)), (0, .ref (a0)), (1, iv (x1)), (4, iv (v4_2))]) rfl ?_
            refine r_goto (tgt := 18) X dX1_spell_62 (by decide) ?_
            exact V.sub [2, 3, 1, 0] rfl (ihb1 _ (Option.some.inj h).symm)
          · refine r_iinc X 4 dX1_spell_46 rfl (hL 4 (by decide)) (lv' := [(4, iv ((v4_2 + 1))), (0, .ref (a0)), (1, iv (x1)), (2, iv (v2_1)), (3, iv (v3_1))]) rfl ?_
            refine r_goto (tgt := 29) X dX1_spell_49 (by decide) ?_
            exact V.sub [1, 2, 3, 4, 0] rfl (ihb2 _ (Option.some.inj h).symm)
        exact V.sub [1, 2, 3, 4, 0] rfl (L29 (0) h)
      · have h := ex_some h ihe1
        refine r_iload_n X 2 dX1_spell_65 rfl rfl ?_
        cases h
        exact r_iret X hr dX1_spell_66
    exact V.sub [2, 3, 1, 0] rfl (L18 (0, 0) h)
theorem hy_X1_answerTo : yX1_answerTo.cls ≠ "java/lang/invoke/MethodHandle" ∧ yX1_answerTo.cls ≠ "java/lang/invoke/VarHandle" ∧ (parseMethodDescriptor yX1_answerTo.desc).map (fun d => d.parameters.length) = some 3 := by decide +kernel
set_option maxHeartbeats 4000000 in
theorem w_X1_answerTo (l : Launch) (D : DD) (sz : Nat) {σ : St} {a0 : Nat} {p1 : Nat} {p2 : Nat} {x3 : Int} {w : Int × St} (h : f_X1_answerTo σ a0 p1 p2 x3 = some w) : Mt l yX1_answerTo cX1_answerTo 7 (some FieldType.int) ({ frames := 9, cells := 0, slots := 0, locals := 138 } : Room) D sz σ [.ref a0, .ref (p1), .ref (p2), iv (x3)] (.returned (some (iv w.1))) (w.2) 0 0 := by
  refine Mt.of (by decide +kernel) (Nat.le_of_ble_eq_true rfl) ?_
  intro Γ X hr hnl hini hnoh
  have X : Cx Γ cX1_answerTo "DayBoy" _ := X
  have hL : ∀ i, i < 7 → i < nLc Γ := fun i q => by rw [hnl]; exact q
  show V Γ σ 0 0 0 [(0, .ref (a0)), (1, .ref (p1)), (2, .ref (p2)), (3, iv (x3))] []
  unfold f_X1_answerTo at h
  obtain ⟨ho0, h⟩ := cO_some h
  refine r_aload_n X 0 dX1_answerTo_0 rfl rfl ?_
  refine r_getA (kf := 9) X ho0.1 rfl (by decide) (by decide) (Or.inl q316) dX1_answerTo_1 ?_
  refine r_iconst X dX1_answerTo_4 ?_
  refine r_iload_n X 3 dX1_answerTo_5 rfl rfl ?_
  refine r_imul X dX1_answerTo_6 ?_
  refine r_iald X ho0.1 (ho0.2 9 (by decide)) rfl rfl rfl (by decide) dX1_answerTo_7 h (fun h => ?_)
  refine r_istore X dX1_answerTo_8 (hL 4 (by decide)) (lv' := [(4, iv ((gI (σ) (a0) 9 ((3 * x3))))), (0, .ref (a0)), (1, .ref (p1)), (2, .ref (p2)), (3, iv (x3))]) rfl ?_
  refine r_aload_n X 1 dX1_answerTo_10 rfl rfl ?_
  refine r_getA (kf := 9) X ho0.1 rfl (by decide) (by decide) (Or.inl q316) dX1_answerTo_11 ?_
  refine r_iconst X dX1_answerTo_14 ?_
  refine r_iload_n X 4 dX1_answerTo_15 rfl rfl ?_
  refine r_imul X dX1_answerTo_16 ?_
  refine r_iconst X dX1_answerTo_17 ?_
  refine r_iadd X dX1_answerTo_18 ?_
  refine r_iald X ho0.1 (ho0.2 9 (by decide)) rfl rfl rfl (by decide) dX1_answerTo_19 h (fun h => ?_)
  refine r_istore X dX1_answerTo_20 (hL 5 (by decide)) (lv' := [(5, iv ((gI (σ) (a0) 9 (((3 * x3) + 1))))), (4, iv ((gI (σ) (a0) 9 ((3 * x3))))), (0, .ref (a0)), (1, .ref (p1)), (2, .ref (p2)), (3, iv (x3))]) rfl ?_
  refine r_aload_n X 2 dX1_answerTo_22 rfl rfl ?_
  refine r_getA (kf := 9) X ho0.1 rfl (by decide) (by decide) (Or.inl q316) dX1_answerTo_23 ?_
  refine r_iconst X dX1_answerTo_26 ?_
  refine r_iload_n X 5 dX1_answerTo_27 rfl rfl ?_
  refine r_imul X dX1_answerTo_28 ?_
  refine r_iconst X dX1_answerTo_29 ?_
  refine r_iadd X dX1_answerTo_30 ?_
  refine r_iald X ho0.1 (ho0.2 9 (by decide)) rfl rfl rfl (by decide) dX1_answerTo_31 h (fun h => ?_)
  refine r_istore X dX1_answerTo_32 (hL 6 (by decide)) (lv' := [(6, iv ((gI (σ) (a0) 9 (((3 * x3) + 2))))), (5, iv ((gI (σ) (a0) 9 (((3 * x3) + 1))))), (4, iv ((gI (σ) (a0) 9 ((3 * x3))))), (0, .ref (a0)), (1, .ref (p1)), (2, .ref (p2)), (3, iv (x3))]) rfl ?_
  refine r_iload X 2 dX1_answerTo_34 rfl ?_
  refine r_iconst X dX1_answerTo_36 ?_
  refine r_icmp_eq (tgt := 80) X dX1_answerTo_37 (by decide) h (fun c1 h => ?_) (fun c1 h => ?_)
  · refine r_bipush X dX1_answerTo_80 (by decide) ?_
    cases h
    exact r_iret X hr dX1_answerTo_82
  · refine r_aload_n X 5 dX1_answerTo_40 rfl rfl ?_
    refine r_iload X 2 dX1_answerTo_41 rfl ?_
    refine r_iload X 1 dX1_answerTo_43 rfl ?_
    refine r_iload X 0 dX1_answerTo_45 rfl ?_
    obtain ⟨ho3, h⟩ := cO_some h
    obtain ⟨r4, h2, h⟩ := bd_some h
    refine r_cV (Wd := 0) X (fun l D sz => w_X2_has l D sz h2) ho3.1 rfl q793 q794 q792 q105 q795 hy_X2_has rfl dX1_answerTo_47 rfl rfl (Nat.le_of_ble_eq_true rfl) ⟨Nat.le_of_ble_eq_true rfl, Nat.le_of_ble_eq_true rfl⟩ ⟨Nat.le_of_ble_eq_true rfl, Nat.le_of_ble_eq_true rfl⟩ ?_
    refine r_if_eq (tgt := 80) X dX1_answerTo_50 (by decide) h (fun c5 h => ?_) (fun c5 h => ?_)
    · refine r_bipush X dX1_answerTo_80 (by decide) ?_
      cases h
      exact r_iret X hr dX1_answerTo_82
    · refine r_aload_n X 3 dX1_answerTo_53 rfl rfl ?_
      refine r_aload_n X 4 dX1_answerTo_54 rfl rfl ?_
      refine r_aload_n X 5 dX1_answerTo_55 rfl rfl ?_
      refine r_iload X 2 dX1_answerTo_56 rfl ?_
      refine r_iload X 1 dX1_answerTo_58 rfl ?_
      obtain ⟨r7, σ8, h6, h⟩ := bd2_some h
      refine r_cV (Wd := 0) X (fun l D sz => w_X1_hasWay l D sz h6) ho0.1 rfl q856 qs28 q854 q104 q857 hy_X1_hasWay rfl dX1_answerTo_60 rfl rfl (Nat.le_of_ble_eq_true rfl) ⟨Nat.le_of_ble_eq_true rfl, Nat.le_of_ble_eq_true rfl⟩ ⟨Nat.le_of_ble_eq_true rfl, Nat.le_of_ble_eq_true rfl⟩ ?_
      refine r_if_eq (tgt := 80) X dX1_answerTo_63 (by decide) h (fun c9 h => ?_) (fun c9 h => ?_)
      · refine r_bipush X dX1_answerTo_80 (by decide) ?_
        cases h
        exact r_iret X hr dX1_answerTo_82
      · refine r_aload_n X 4 dX1_answerTo_66 rfl rfl ?_
        refine r_aload_n X 5 dX1_answerTo_67 rfl rfl ?_
        refine r_iload X 2 dX1_answerTo_68 rfl ?_
        refine r_iload X 1 dX1_answerTo_70 rfl ?_
        refine r_iload X 0 dX1_answerTo_72 rfl ?_
        obtain ⟨r11, σ12, h10, h⟩ := bd2_some h
        refine r_cS (Wd := 0) X (fun l D sz => w_X1_answerOf l D sz h10) q897 q896 q104 q898 hy_X1_answerOf rfl dX1_answerTo_74 rfl rfl (Nat.le_of_ble_eq_true rfl) ⟨Nat.le_of_ble_eq_true rfl, Nat.le_of_ble_eq_true rfl⟩ ⟨Nat.le_of_ble_eq_true rfl, Nat.le_of_ble_eq_true rfl⟩ ?_
        refine r_goto (tgt := 82) X dX1_answerTo_77 (by decide) ?_
        cases h
        exact r_iret X hr dX1_answerTo_82
theorem hy_X1_row : yX1_row.cls ≠ "java/lang/invoke/MethodHandle" ∧ yX1_row.cls ≠ "java/lang/invoke/VarHandle" ∧ (parseMethodDescriptor yX1_row.desc).map (fun d => d.parameters.length) = some 3 := by decide +kernel
set_option maxHeartbeats 4000000 in
theorem w_X1_row (l : Launch) (D : DD) (sz : Nat) {σ : St} {a0 : Nat} {x1 : Int} {x2 : Int} {x3 : Int} {w : Int × St} (h : f_X1_row σ a0 x1 x2 x3 = some w) : Mt l yX1_row cX1_row 6 (some FieldType.int) ({ frames := 10, cells := 0, slots := 0, locals := 156 } : Room) D sz σ [.ref a0, iv (x1), iv (x2), iv (x3)] (.returned (some (iv w.1))) (w.2) 0 0 := by
  refine Mt.of (by decide +kernel) (Nat.le_of_ble_eq_true rfl) ?_
  intro Γ X hr hnl hini hnoh
  have X : Cx Γ cX1_row "DayBoy" _ := X
  have hL : ∀ i, i < 6 → i < nLc Γ := fun i q => by rw [hnl]; exact q
  show V Γ σ 0 0 0 [(0, .ref (a0)), (1, iv (x1)), (2, iv (x2)), (3, iv (x3))] []
  unfold f_X1_row at h
  obtain ⟨ho0, h⟩ := cO_some h
  have J91 : ∀ (v4_j91 : Int) (σ_j91 : St), f_X1_row_j91 (a0) (x1) (x2) (x3) v4_j91 σ_j91 = some w → V Γ σ_j91 0 0 91 [(0, .ref (a0)), (1, iv (x1)), (2, iv (x2)), (3, iv (x3)), (4, iv (v4_j91))] [] := by
    intro v4_j91 σ_j91 h
    unfold f_X1_row_j91 at h
    refine r_iload X 4 dX1_row_91 rfl ?_
    refine r_iconst X dX1_row_93 ?_
    refine r_icmp_ne (tgt := 102) X dX1_row_94 (by decide) h (fun c1 h => ?_) (fun c1 h => ?_)
    · refine r_bipush X dX1_row_97 (by decide) ?_
      refine r_goto (tgt := 119) X dX1_row_99 (by decide) ?_
      cases h
      exact r_iret X hr dX1_row_119
    · refine r_aload_n X 0 dX1_row_102 rfl rfl ?_
      refine r_aload_n X 0 dX1_row_103 rfl rfl ?_
      obtain ⟨ho2, h⟩ := cO_some h
      refine r_getA (kf := 5) X ho2.1 rfl (by decide) (by decide) (Or.inl q311) dX1_row_104 ?_
      refine r_iload_n X 1 dX1_row_107 rfl rfl ?_
      refine r_aald X ho2.1 (ho2.2 5 (by decide)) rfl rfl (by decide) rfl (by decide) dX1_row_108 h (fun b3 h => ?_)
      refine r_aload_n X 0 dX1_row_109 rfl rfl ?_
      refine r_getA (kf := 4) X ho2.1 rfl (by decide) (by decide) (Or.inl q310) dX1_row_110 ?_
      refine r_iload_n X 2 dX1_row_113 rfl rfl ?_
      refine r_aald X ho2.1 (ho2.2 4 (by decide)) rfl rfl (by decide) rfl (by decide) dX1_row_114 h (fun b4 h => ?_)
      refine r_iload_n X 3 dX1_row_115 rfl rfl ?_
      obtain ⟨r6, σ7, h5, h⟩ := bd2_some h
      refine r_cV (Wd := 0) X (fun l D sz => w_X1_answerTo l D sz h5) ho2.1 rfl q1136 qs41 q1134 q104 q1137 hy_X1_answerTo rfl dX1_row_116 rfl rfl (Nat.le_of_ble_eq_true rfl) ⟨Nat.le_of_ble_eq_true rfl, Nat.le_of_ble_eq_true rfl⟩ ⟨Nat.le_of_ble_eq_true rfl, Nat.le_of_ble_eq_true rfl⟩ ?_
      cases h
      exact r_iret X hr dX1_row_119
  refine r_aload_n X 0 dX1_row_0 rfl rfl ?_
  refine r_iload_n X 1 dX1_row_1 rfl rfl ?_
  obtain ⟨r9, h8, h⟩ := bd_some h
  refine r_cV (Wd := 0) X (fun l D sz => w_X1_isHead l D sz h8) ho0.1 rfl q852 qs27 q850 q104 q853 hy_X1_isHead rfl dX1_row_2 rfl rfl (Nat.le_of_ble_eq_true rfl) ⟨Nat.le_of_ble_eq_true rfl, Nat.le_of_ble_eq_true rfl⟩ ⟨Nat.le_of_ble_eq_true rfl, Nat.le_of_ble_eq_true rfl⟩ ?_
  refine r_if_eq (tgt := 32) X dX1_row_5 (by decide) h (fun c10 h => ?_) (fun c10 h => ?_)
  · refine r_iconst X dX1_row_32 ?_
    cases h
    exact r_iret X hr dX1_row_33
  · refine r_aload_n X 0 dX1_row_8 rfl rfl ?_
    refine r_iload_n X 2 dX1_row_9 rfl rfl ?_
    obtain ⟨r12, h11, h⟩ := bd_some h
    refine r_cV (Wd := 0) X (fun l D sz => w_X1_isCalendar l D sz h11) ho0.1 rfl q751 qs22 q749 q104 q752 hy_X1_isCalendar rfl dX1_row_10 rfl rfl (Nat.le_of_ble_eq_true rfl) ⟨Nat.le_of_ble_eq_true rfl, Nat.le_of_ble_eq_true rfl⟩ ⟨Nat.le_of_ble_eq_true rfl, Nat.le_of_ble_eq_true rfl⟩ ?_
    refine r_if_eq (tgt := 32) X dX1_row_13 (by decide) h (fun c13 h => ?_) (fun c13 h => ?_)
    · refine r_iconst X dX1_row_32 ?_
      cases h
      exact r_iret X hr dX1_row_33
    · refine r_iload_n X 3 dX1_row_16 rfl rfl ?_
      obtain ⟨c14, h⟩ := ck_some h
      refine r_i2l X dX1_row_17 c14 ?_
      refine r_lconst (y := 0) X dX1_row_18 rfl ?_
      refine r_aload_n X 0 dX1_row_19 rfl rfl ?_
      refine r_getI (kf := 10) X ho0.1 rfl (by decide) rfl (Or.inl q317) dX1_row_20 ?_
      refine r_iconst X dX1_row_23 ?_
      refine r_isub X dX1_row_24 ?_
      obtain ⟨c15, h⟩ := ck_some h
      refine r_i2l X dX1_row_25 c15 ?_
      obtain ⟨r17, h16, h⟩ := bd_some h
      refine r_cS (Wd := 0) X (fun l D sz => w_X1_isIn l D sz h16) q414 q413 q104 q415 hy_X1_isIn rfl dX1_row_26 rfl rfl (Nat.le_of_ble_eq_true rfl) ⟨Nat.le_of_ble_eq_true rfl, Nat.le_of_ble_eq_true rfl⟩ ⟨Nat.le_of_ble_eq_true rfl, Nat.le_of_ble_eq_true rfl⟩ ?_
      refine r_if_ne (tgt := 34) X dX1_row_29 (by decide) h (fun c18 h => ?_) (fun c18 h => ?_)
      · refine r_iconst X dX1_row_32 ?_
        cases h
        exact r_iret X hr dX1_row_33
      · refine r_iconst X dX1_row_34 ?_
        refine r_istore X dX1_row_35 (hL 4 (by decide)) (lv' := [(4, iv (0)), (0, .ref (a0)), (1, iv (x1)), (2, iv (x2)), (3, iv (x3))]) rfl ?_
        refine r_iconst X dX1_row_37 ?_
        refine r_istore X dX1_row_38 (hL 5 (by decide)) (lv' := [(5, iv (0)), (4, iv (0)), (0, .ref (a0)), (1, iv (x1)), (2, iv (x2)), (3, iv (x3))]) rfl ?_
        have L40 : ∀ s : Int × Int × St, lp (fun s => f_X1_row_b40 (a0) (x1) (x2) (x3) s.1 s.2.1 s.2.2) s = some w → V Γ (s.2.2) 0 0 40 [(0, .ref (a0)), (1, iv (x1)), (2, iv (x2)), (3, iv (x3)), (4, iv (s.1)), (5, iv (s.2.1))] [] := by
          refine lp_rule (P := fun s : Int × Int × St => V Γ (s.2.2) 0 0 40 [(0, .ref (a0)), (1, iv (x1)), (2, iv (x2)), (3, iv (x3)), (4, iv (s.1)), (5, iv (s.2.1))] []) ?_
          intro s z1 h ihb1 ihe1
          obtain ⟨v4_1, v5_1, σ_1⟩ := s
          have h : f_X1_row_b40 (a0) (x1) (x2) (x3) v4_1 v5_1 σ_1 = some z1 := h
          unfold f_X1_row_b40 at h
          show V Γ σ_1 0 0 40 [(0, .ref (a0)), (1, iv (x1)), (2, iv (x2)), (3, iv (x3)), (4, iv (v4_1)), (5, iv (v5_1))] []
          refine r_iload X 5 dX1_row_40 rfl ?_
          refine r_iload_n X 3 dX1_row_42 rfl rfl ?_
          refine r_icmp_ge (tgt := 91) X dX1_row_43 (by decide) h (fun c19 h => ?_) (fun c19 h => ?_)
          · refine r_iload X 4 dX1_row_46 rfl ?_
            refine r_iconst X dX1_row_48 ?_
            refine r_icmp_ge (tgt := 91) X dX1_row_49 (by decide) h (fun c20 h => ?_) (fun c20 h => ?_)
            · refine r_aload_n X 0 dX1_row_52 rfl rfl ?_
              refine r_aload_n X 0 dX1_row_53 rfl rfl ?_
              obtain ⟨ho21, h⟩ := cO_some h
              refine r_getA (kf := 5) X ho21.1 rfl (by decide) (by decide) (Or.inl q311) dX1_row_54 ?_
              refine r_iload_n X 1 dX1_row_57 rfl rfl ?_
              refine r_aald X ho21.1 (ho21.2 5 (by decide)) rfl rfl (by decide) rfl (by decide) dX1_row_58 h (fun b22 h => ?_)
              refine r_aload_n X 0 dX1_row_59 rfl rfl ?_
              refine r_getA (kf := 4) X ho21.1 rfl (by decide) (by decide) (Or.inl q310) dX1_row_60 ?_
              refine r_iload_n X 2 dX1_row_63 rfl rfl ?_
              refine r_aald X ho21.1 (ho21.2 4 (by decide)) rfl rfl (by decide) rfl (by decide) dX1_row_64 h (fun b23 h => ?_)
              refine r_iload X 5 dX1_row_65 rfl ?_
              obtain ⟨r25, σ26, h24, h⟩ := bd2_some h
              refine r_cV (Wd := 0) X (fun l D sz => w_X1_answerTo l D sz h24) ho21.1 rfl q1136 qs41 q1134 q104 q1137 hy_X1_answerTo rfl dX1_row_67 rfl rfl (Nat.le_of_ble_eq_true rfl) ⟨Nat.le_of_ble_eq_true rfl, Nat.le_of_ble_eq_true rfl⟩ ⟨Nat.le_of_ble_eq_true rfl, Nat.le_of_ble_eq_true rfl⟩ ?_
              refine r_bipush X dX1_row_70 (by decide) ?_
              refine r_icmp_ne (tgt := 82) X dX1_row_72 (by decide) h (fun c27 h => ?_) (fun c27 h => ?_)
              · refine r_iload X 4 dX1_row_75 rfl ?_
                refine r_iconst X dX1_row_77 ?_
                refine r_iadd X dX1_row_78 ?_
                refine r_goto (tgt := 83) X dX1_row_79 (by decide) ?_
                refine r_istore X dX1_row_83 (hL 4 (by decide)) (lv' := [(4, iv ((v4_1 + 1))), (0, .ref (a0)), (1, iv (x1)), (2, iv (x2)), (3, iv (x3)), (5, iv (v5_1))]) rfl ?_
                refine r_iinc X 5 dX1_row_85 rfl (hL 5 (by decide)) (lv' := [(5, iv ((v5_1 + 1))), (4, iv ((v4_1 + 1))), (0, .ref (a0)), (1, iv (x1)), (2, iv (x2)), (3, iv (x3))]) rfl ?_
                refine r_goto (tgt := 40) X dX1_row_88 (by decide) ?_
                exact V.sub [2, 3, 4, 5, 1, 0] rfl (ihb1 _ (Option.some.inj h).symm)
              · refine r_iconst X dX1_row_82 ?_
                refine r_istore X dX1_row_83 (hL 4 (by decide)) (lv' := [(4, iv (0)), (0, .ref (a0)), (1, iv (x1)), (2, iv (x2)), (3, iv (x3)), (5, iv (v5_1))]) rfl ?_
                refine r_iinc X 5 dX1_row_85 rfl (hL 5 (by decide)) (lv' := [(5, iv ((v5_1 + 1))), (4, iv (0)), (0, .ref (a0)), (1, iv (x1)), (2, iv (x2)), (3, iv (x3))]) rfl ?_
                refine r_goto (tgt := 40) X dX1_row_88 (by decide) ?_
                exact V.sub [2, 3, 4, 5, 1, 0] rfl (ihb1 _ (Option.some.inj h).symm)
            · have h := ex_some h ihe1
              exact V.sub [0, 1, 2, 3, 4] rfl (J91 (v4_1) (σ_1) h)
          · have h := ex_some h ihe1
            exact V.sub [0, 1, 2, 3, 4] rfl (J91 (v4_1) (σ_1) h)
        exact V.sub [2, 3, 4, 5, 1, 0] rfl (L40 (0, 0, σ) h)
theorem hy_X1_planKind : yX1_planKind.cls ≠ "java/lang/invoke/MethodHandle" ∧ yX1_planKind.cls ≠ "java/lang/invoke/VarHandle" ∧ (parseMethodDescriptor yX1_planKind.desc).map (fun d => d.parameters.length) = some 1 := by decide +kernel
set_option maxHeartbeats 4000000 in
theorem w_X1_planKind (l : Launch) (D : DD) (sz : Nat) {σ : St} {a0 : Nat} {x1 : Int} {w : Int} (h : f_X1_planKind σ a0 x1 = some w) : Mt l yX1_planKind cX1_planKind 2 (some FieldType.int) ({ frames := 9, cells := 0, slots := 0, locals := 137 } : Room) D sz σ [.ref a0, iv (x1)] (.returned (some (iv w))) (σ) 0 0 := by
  refine Mt.of (by decide +kernel) (Nat.le_of_ble_eq_true rfl) ?_
  intro Γ X hr hnl hini hnoh
  have X : Cx Γ cX1_planKind "DayBoy" _ := X
  have hL : ∀ i, i < 2 → i < nLc Γ := fun i q => by rw [hnl]; exact q
  show V Γ σ 0 0 0 [(0, .ref (a0)), (1, iv (x1))] []
  unfold f_X1_planKind at h
  obtain ⟨ho0, h⟩ := cO_some h
  refine r_aload_n X 0 dX1_planKind_0 rfl rfl ?_
  refine r_getA (kf := 4) X ho0.1 rfl (by decide) (by decide) (Or.inl q310) dX1_planKind_1 ?_
  refine r_aload_n X 0 dX1_planKind_4 rfl rfl ?_
  refine r_getA (kf := 16) X ho0.1 rfl (by decide) (by decide) (Or.inl q323) dX1_planKind_5 ?_
  refine r_iload_n X 1 dX1_planKind_8 rfl rfl ?_
  refine r_iald X ho0.1 (ho0.2 16 (by decide)) rfl rfl rfl (by decide) dX1_planKind_9 h (fun h => ?_)
  refine r_aald X ho0.1 (ho0.2 4 (by decide)) rfl rfl (by decide) rfl (by decide) dX1_planKind_10 h (fun b1 h => ?_)
  refine r_aload_n X 0 dX1_planKind_11 rfl rfl ?_
  refine r_getA (kf := 17) X ho0.1 rfl (by decide) (by decide) (Or.inl q324) dX1_planKind_12 ?_
  refine r_iload_n X 1 dX1_planKind_15 rfl rfl ?_
  refine r_iald X ho0.1 (ho0.2 17 (by decide)) rfl rfl rfl (by decide) dX1_planKind_16 h (fun h => ?_)
  obtain ⟨ho3, h⟩ := cO_some h
  obtain ⟨r4, h2, h⟩ := bd_some h
  refine r_cV (Wd := 0) X (fun l D sz => w_X2_kind l D sz h2) ho3.1 rfl q834 q835 q833 q105 q836 hy_X2_kind rfl dX1_planKind_17 rfl rfl (Nat.le_of_ble_eq_true rfl) ⟨Nat.le_of_ble_eq_true rfl, Nat.le_of_ble_eq_true rfl⟩ ⟨Nat.le_of_ble_eq_true rfl, Nat.le_of_ble_eq_true rfl⟩ ?_
  cases h
  exact r_iret X hr dX1_planKind_20
theorem hy_X1_tenthsOfPlan : yX1_tenthsOfPlan.cls ≠ "java/lang/invoke/MethodHandle" ∧ yX1_tenthsOfPlan.cls ≠ "java/lang/invoke/VarHandle" ∧ (parseMethodDescriptor yX1_tenthsOfPlan.desc).map (fun d => d.parameters.length) = some 4 := by decide +kernel
set_option maxHeartbeats 4000000 in
theorem w_X1_tenthsOfPlan (l : Launch) (D : DD) (sz : Nat) {σ : St} {a0 : Nat} {p1 : Nat} {x2 : Int} {x3 : Int} {x4 : Int} {w : Int × St} (h : f_X1_tenthsOfPlan σ a0 p1 x2 x3 x4 = some w) : Mt l yX1_tenthsOfPlan cX1_tenthsOfPlan 6 (some FieldType.int) ({ frames := 10, cells := 0, slots := 0, locals := 151 } : Room) D sz σ [.ref a0, .ref (p1), iv (x2), iv (x3), iv (x4)] (.returned (some (iv w.1))) (w.2) 0 0 := by
  refine Mt.of (by decide +kernel) (Nat.le_of_ble_eq_true rfl) ?_
  intro Γ X hr hnl hini hnoh
  have X : Cx Γ cX1_tenthsOfPlan "DayBoy" _ := X
  have hL : ∀ i, i < 6 → i < nLc Γ := fun i q => by rw [hnl]; exact q
  show V Γ σ 0 0 0 [(0, .ref (a0)), (1, .ref (p1)), (2, iv (x2)), (3, iv (x3)), (4, iv (x4))] []
  unfold f_X1_tenthsOfPlan at h
  obtain ⟨ho0, h⟩ := cO_some h
  have J82 : ∀ (t0_j82 : Int) (t1_j82 : Int) (t2_j82 : Int) (σ_j82 : St), f_X1_tenthsOfPlan_j82  t0_j82 t1_j82 t2_j82 σ_j82 = some w → V Γ σ_j82 0 0 82 [] [iv (t0_j82), iv (t1_j82), iv (t2_j82)] := by
    intro t0_j82 t1_j82 t2_j82 σ_j82 h
    unfold f_X1_tenthsOfPlan_j82 at h
    refine r_isub X dX1_tenthsOfPlan_82 ?_
    obtain ⟨r2, h1, h⟩ := bd_some h
    refine r_cS (Wd := 0) X (fun l D sz => w_J3_max l D sz h1) q1128 q1127 q115 q1129 hy_J3_max rfl dX1_tenthsOfPlan_83 rfl rfl (Nat.le_of_ble_eq_true rfl) ⟨Nat.le_of_ble_eq_true rfl, Nat.le_of_ble_eq_true rfl⟩ ⟨Nat.le_of_ble_eq_true rfl, Nat.le_of_ble_eq_true rfl⟩ ?_
    cases h
    exact r_iret X hr dX1_tenthsOfPlan_86
  have J33 : ∀ (t0_j33 : Int) (σ_j33 : St), f_X1_tenthsOfPlan_j33 (a0) (p1) (x2) (x3) (x4) t0_j33 σ_j33 = some w → V Γ σ_j33 0 0 33 [(0, .ref (a0)), (1, .ref (p1)), (2, iv (x2)), (3, iv (x3)), (4, iv (x4))] [iv (t0_j33)] := by
    intro t0_j33 σ_j33 h
    unfold f_X1_tenthsOfPlan_j33 at h
    refine r_istore X dX1_tenthsOfPlan_33 (hL 5 (by decide)) (lv' := [(5, iv (t0_j33)), (0, .ref (a0)), (1, .ref (p1)), (2, iv (x2)), (3, iv (x3)), (4, iv (x4))]) rfl ?_
    refine r_iconst X dX1_tenthsOfPlan_35 ?_
    refine r_aload_n X 2 dX1_tenthsOfPlan_36 rfl rfl ?_
    refine r_aload_n X 1 dX1_tenthsOfPlan_37 rfl rfl ?_
    obtain ⟨ho3, h⟩ := cO_some h
    refine r_getA (kf := 4) X ho3.1 rfl (by decide) (by decide) (Or.inl q310) dX1_tenthsOfPlan_38 ?_
    refine r_aload_n X 1 dX1_tenthsOfPlan_41 rfl rfl ?_
    refine r_getA (kf := 16) X ho3.1 rfl (by decide) (by decide) (Or.inl q323) dX1_tenthsOfPlan_42 ?_
    refine r_iload_n X 3 dX1_tenthsOfPlan_45 rfl rfl ?_
    refine r_iald X ho3.1 (ho3.2 16 (by decide)) rfl rfl rfl (by decide) dX1_tenthsOfPlan_46 h (fun h => ?_)
    refine r_aald X ho3.1 (ho3.2 4 (by decide)) rfl rfl (by decide) rfl (by decide) dX1_tenthsOfPlan_47 h (fun b4 h => ?_)
    refine r_aload_n X 1 dX1_tenthsOfPlan_48 rfl rfl ?_
    refine r_getA (kf := 17) X ho3.1 rfl (by decide) (by decide) (Or.inl q324) dX1_tenthsOfPlan_49 ?_
    refine r_iload_n X 3 dX1_tenthsOfPlan_52 rfl rfl ?_
    refine r_iald X ho3.1 (ho3.2 17 (by decide)) rfl rfl rfl (by decide) dX1_tenthsOfPlan_53 h (fun h => ?_)
    refine r_aload_n X 1 dX1_tenthsOfPlan_54 rfl rfl ?_
    refine r_getA (kf := 18) X ho3.1 rfl (by decide) (by decide) (Or.inl q325) dX1_tenthsOfPlan_55 ?_
    refine r_iload_n X 3 dX1_tenthsOfPlan_58 rfl rfl ?_
    refine r_iald X ho3.1 (ho3.2 18 (by decide)) rfl rfl rfl (by decide) dX1_tenthsOfPlan_59 h (fun h => ?_)
    refine r_aload_n X 1 dX1_tenthsOfPlan_60 rfl rfl ?_
    refine r_getA (kf := 19) X ho3.1 rfl (by decide) (by decide) (Or.inl q326) dX1_tenthsOfPlan_61 ?_
    refine r_iload_n X 3 dX1_tenthsOfPlan_64 rfl rfl ?_
    refine r_iald X ho3.1 (ho3.2 19 (by decide)) rfl rfl rfl (by decide) dX1_tenthsOfPlan_65 h (fun h => ?_)
    obtain ⟨r6, σ7, h5, h⟩ := bd2_some h
    refine r_cS (Wd := 1) X (fun l D sz => w_X1_tenthsOf l D sz h5) q901 q900 q104 q902 hy_X1_tenthsOf rfl dX1_tenthsOfPlan_66 rfl rfl (Nat.le_of_ble_eq_true rfl) ⟨Nat.le_of_ble_eq_true rfl, Nat.le_of_ble_eq_true rfl⟩ ⟨Nat.le_of_ble_eq_true rfl, Nat.le_of_ble_eq_true rfl⟩ ?_
    refine r_iload_n X 4 dX1_tenthsOfPlan_69 rfl rfl ?_
    refine r_iadd X dX1_tenthsOfPlan_70 ?_
    refine r_iload X 0 dX1_tenthsOfPlan_71 rfl ?_
    refine r_if_eq (tgt := 81) X dX1_tenthsOfPlan_73 (by decide) h (fun c8 h => ?_) (fun c8 h => ?_)
    · refine r_iconst X dX1_tenthsOfPlan_81 ?_
      exact V.sub [] rfl (J82 (0) ((r6 + x3)) (0) (σ7) h)
    · refine r_iload X 5 dX1_tenthsOfPlan_76 rfl ?_
      refine r_goto (tgt := 82) X dX1_tenthsOfPlan_78 (by decide) ?_
      exact V.sub [] rfl (J82 (x4) ((r6 + x3)) (0) (σ7) h)
  have J32 : ∀ (σ_j32 : St), f_X1_tenthsOfPlan_j32 (a0) (p1) (x2) (x3) (x4) σ_j32 = some w → V Γ σ_j32 0 0 32 [(0, .ref (a0)), (1, .ref (p1)), (2, iv (x2)), (3, iv (x3)), (4, iv (x4))] [] := by
    intro σ_j32 h
    unfold f_X1_tenthsOfPlan_j32 at h
    refine r_iconst X dX1_tenthsOfPlan_32 ?_
    exact V.sub [0, 1, 2, 3, 4] rfl (J33 (0) (σ_j32) h)
  refine r_iload_n X 2 dX1_tenthsOfPlan_0 rfl rfl ?_
  refine r_if_le (tgt := 32) X dX1_tenthsOfPlan_1 (by decide) h (fun c9 h => ?_) (fun c9 h => ?_)
  · refine r_aload_n X 0 dX1_tenthsOfPlan_4 rfl rfl ?_
    refine r_iload_n X 2 dX1_tenthsOfPlan_5 rfl rfl ?_
    obtain ⟨r11, h10, h⟩ := bd_some h
    refine r_cV (Wd := 0) X (fun l D sz => w_X1_planKind l D sz h10) ho0.1 rfl q1151 qs43 q1149 q104 q1152 hy_X1_planKind rfl dX1_tenthsOfPlan_6 rfl rfl (Nat.le_of_ble_eq_true rfl) ⟨Nat.le_of_ble_eq_true rfl, Nat.le_of_ble_eq_true rfl⟩ ⟨Nat.le_of_ble_eq_true rfl, Nat.le_of_ble_eq_true rfl⟩ ?_
    refine r_iconst X dX1_tenthsOfPlan_9 ?_
    refine r_icmp_eq (tgt := 32) X dX1_tenthsOfPlan_10 (by decide) h (fun c12 h => ?_) (fun c12 h => ?_)
    · exact V.sub [0, 1, 2, 3, 4] rfl (J32 (σ) h)
    · refine r_aload_n X 0 dX1_tenthsOfPlan_13 rfl rfl ?_
      refine r_iload_n X 2 dX1_tenthsOfPlan_14 rfl rfl ?_
      obtain ⟨r14, h13, h⟩ := bd_some h
      refine r_cV (Wd := 0) X (fun l D sz => w_X1_planKind l D sz h13) ho0.1 rfl q1151 qs43 q1149 q104 q1152 hy_X1_planKind rfl dX1_tenthsOfPlan_15 rfl rfl (Nat.le_of_ble_eq_true rfl) ⟨Nat.le_of_ble_eq_true rfl, Nat.le_of_ble_eq_true rfl⟩ ⟨Nat.le_of_ble_eq_true rfl, Nat.le_of_ble_eq_true rfl⟩ ?_
      refine r_aload_n X 0 dX1_tenthsOfPlan_18 rfl rfl ?_
      refine r_iload_n X 2 dX1_tenthsOfPlan_19 rfl rfl ?_
      refine r_iconst X dX1_tenthsOfPlan_20 ?_
      refine r_isub X dX1_tenthsOfPlan_21 ?_
      obtain ⟨r16, h15, h⟩ := bd_some h
      refine r_cV (Wd := 1) X (fun l D sz => w_X1_planKind l D sz h15) ho0.1 rfl q1151 qs43 q1149 q104 q1152 hy_X1_planKind rfl dX1_tenthsOfPlan_22 rfl rfl (Nat.le_of_ble_eq_true rfl) ⟨Nat.le_of_ble_eq_true rfl, Nat.le_of_ble_eq_true rfl⟩ ⟨Nat.le_of_ble_eq_true rfl, Nat.le_of_ble_eq_true rfl⟩ ?_
      refine r_icmp_ne (tgt := 32) X dX1_tenthsOfPlan_25 (by decide) h (fun c17 h => ?_) (fun c17 h => ?_)
      · refine r_iconst X dX1_tenthsOfPlan_28 ?_
        refine r_goto (tgt := 33) X dX1_tenthsOfPlan_29 (by decide) ?_
        exact V.sub [0, 1, 2, 3, 4] rfl (J33 (1) (σ) h)
      · exact V.sub [0, 1, 2, 3, 4] rfl (J32 (σ) h)
  · exact V.sub [0, 1, 2, 3, 4] rfl (J32 (σ) h)
theorem hy_X1_run : yX1_run.cls ≠ "java/lang/invoke/MethodHandle" ∧ yX1_run.cls ≠ "java/lang/invoke/VarHandle" ∧ (parseMethodDescriptor yX1_run.desc).map (fun d => d.parameters.length) = some 5 := by decide +kernel
set_option maxHeartbeats 4000000 in
theorem w_X1_run (l : Launch) (D : DD) (sz : Nat) {σ : St} {a0 : Nat} {x1 : Int} {y2 : Int} {x4 : Int} {x5 : Int} {x6 : Int} {w : Int × St} (h : f_X1_run σ a0 x1 y2 x4 x5 x6 = some w) : Mt l yX1_run cX1_run 13 (some FieldType.int) ({ frames := 11, cells := 0, slots := 0, locals := 168 } : Room) D sz σ [.ref a0, iv (x1), jv (y2), iv (x4), iv (x5), iv (x6)] (.returned (some (iv w.1))) (w.2) 0 0 := by
  refine Mt.of (by decide +kernel) (Nat.le_of_ble_eq_true rfl) ?_
  intro Γ X hr hnl hini hnoh
  have X : Cx Γ cX1_run "DayBoy" _ := X
  have hL : ∀ i, i < 13 → i < nLc Γ := fun i q => by rw [hnl]; exact q
  show V Γ σ 0 0 0 [(0, .ref (a0)), (1, iv (x1)), (2, jv (y2)), (4, iv (x4)), (5, iv (x5)), (6, iv (x6))] []
  unfold f_X1_run at h
  obtain ⟨ho0, h⟩ := cO_some h
  have J59 : ∀ (σ_j59 : St), f_X1_run_j59 (a0) (x1) (y2) (x4) (x5) (x6) σ_j59 = some w → V Γ σ_j59 0 0 59 [(0, .ref (a0)), (1, iv (x1)), (2, jv (y2)), (4, iv (x4)), (5, iv (x5)), (6, iv (x6))] [] := by
    intro σ_j59 h
    unfold f_X1_run_j59 at h
    refine r_aload_n X 0 dX1_run_59 rfl rfl ?_
    obtain ⟨ho1, h⟩ := cO_some h
    refine r_getA (kf := 5) X ho1.1 rfl (by decide) (by decide) (Or.inl q311) dX1_run_60 ?_
    refine r_iload_n X 1 dX1_run_63 rfl rfl ?_
    refine r_aald X ho1.1 (ho1.2 5 (by decide)) rfl rfl (by decide) rfl (by decide) dX1_run_64 h (fun b2 h => ?_)
    refine r_astore X dX1_run_65 (hL 7 (by decide)) (lv' := [(7, .ref (b2)), (0, .ref (a0)), (1, iv (x1)), (2, jv (y2)), (4, iv (x4)), (5, iv (x5)), (6, iv (x6))]) rfl ?_
    refine r_lload_n X 3 dX1_run_67 rfl rfl ?_
    refine r_lstore X dX1_run_68 (hL 9 (by decide)) (lv' := [(8, jv (y2)), (7, .ref (b2)), (0, .ref (a0)), (1, iv (x1)), (2, jv (y2)), (4, iv (x4)), (5, iv (x5)), (6, iv (x6))]) rfl ?_
    refine r_iconst X dX1_run_70 ?_
    refine r_istore X dX1_run_71 (hL 10 (by decide)) (lv' := [(10, iv (0)), (8, jv (y2)), (7, .ref (b2)), (0, .ref (a0)), (1, iv (x1)), (2, jv (y2)), (4, iv (x4)), (5, iv (x5)), (6, iv (x6))]) rfl ?_
    refine r_iconst X dX1_run_73 ?_
    refine r_istore X dX1_run_74 (hL 11 (by decide)) (lv' := [(11, iv (0)), (10, iv (0)), (8, jv (y2)), (7, .ref (b2)), (0, .ref (a0)), (1, iv (x1)), (2, jv (y2)), (4, iv (x4)), (5, iv (x5)), (6, iv (x6))]) rfl ?_
    have L76 : ∀ s : Int × Int × Int × St, lp (fun s => f_X1_run_b76 (a0) (x4) (x5) (x6) (b2) s.1 s.2.1 s.2.2.1 s.2.2.2) s = some w → V Γ (s.2.2.2) 0 0 76 [(0, .ref (a0)), (4, iv (x4)), (5, iv (x5)), (6, iv (x6)), (7, .ref (b2)), (8, jv (s.1)), (10, iv (s.2.1)), (11, iv (s.2.2.1))] [] := by
      refine lp_rule (P := fun s : Int × Int × Int × St => V Γ (s.2.2.2) 0 0 76 [(0, .ref (a0)), (4, iv (x4)), (5, iv (x5)), (6, iv (x6)), (7, .ref (b2)), (8, jv (s.1)), (10, iv (s.2.1)), (11, iv (s.2.2.1))] []) ?_
      intro s z1 h ihb1 ihe1
      obtain ⟨v8_1, v10_1, v11_1, σ_1⟩ := s
      have h : f_X1_run_b76 (a0) (x4) (x5) (x6) (b2) v8_1 v10_1 v11_1 σ_1 = some z1 := h
      unfold f_X1_run_b76 at h
      show V Γ σ_1 0 0 76 [(0, .ref (a0)), (4, iv (x4)), (5, iv (x5)), (6, iv (x6)), (7, .ref (b2)), (8, jv (v8_1)), (10, iv (v10_1)), (11, iv (v11_1))] []
      have J159 : ∀ (v8_j159 : Int) (v10_j159 : Int) (v11_j159 : Int) (v12_j159 : Int) (σ_j159 : St), f_X1_run_j159 (a0) (x4) (x5) (x6) (b2) v8_j159 v10_j159 v11_j159 v12_j159 σ_j159 = some z1 → V Γ σ_j159 0 0 159 [(0, .ref (a0)), (4, iv (x4)), (5, iv (x5)), (6, iv (x6)), (7, .ref (b2)), (8, jv (v8_j159)), (10, iv (v10_j159)), (11, iv (v11_j159)), (12, iv (v12_j159))] [] := by
        intro v8_j159 v10_j159 v11_j159 v12_j159 σ_j159 h
        unfold f_X1_run_j159 at h
        refine r_iload X 7 dX1_run_159 rfl ?_
        refine r_iload X 3 dX1_run_161 rfl ?_
        refine r_icmp_ne (tgt := 169) X dX1_run_163 (by decide) h (fun c3 h => ?_) (fun c3 h => ?_)
        · have h := ex_some h ihe1
          refine r_iload X 8 dX1_run_166 rfl ?_
          cases h
          exact r_iret X hr dX1_run_168
        · refine r_iload X 6 dX1_run_169 rfl ?_
          refine r_iconst X dX1_run_171 ?_
          refine r_iload X 8 dX1_run_172 rfl ?_
          obtain ⟨r5, h4, h⟩ := bd_some h
          refine r_cS (Wd := 1) X (fun l D sz => w_J3_max l D sz h4) q1128 q1127 q115 q1129 hy_J3_max rfl dX1_run_174 rfl rfl (Nat.le_of_ble_eq_true rfl) ⟨Nat.le_of_ble_eq_true rfl, Nat.le_of_ble_eq_true rfl⟩ ⟨Nat.le_of_ble_eq_true rfl, Nat.le_of_ble_eq_true rfl⟩ ?_
          refine r_iadd X dX1_run_177 ?_
          refine r_istore X dX1_run_178 (hL 10 (by decide)) (lv' := [(10, iv ((v10_j159 + r5))), (0, .ref (a0)), (4, iv (x4)), (5, iv (x5)), (6, iv (x6)), (7, .ref (b2)), (8, jv (v8_j159)), (11, iv (v11_j159)), (12, iv (v12_j159))]) rfl ?_
          refine r_iinc X 7 dX1_run_180 rfl (hL 11 (by decide)) (lv' := [(11, iv ((v11_j159 + 1))), (10, iv ((v10_j159 + r5))), (0, .ref (a0)), (4, iv (x4)), (5, iv (x5)), (6, iv (x6)), (7, .ref (b2)), (8, jv (v8_j159)), (12, iv (v12_j159))]) rfl ?_
          refine r_goto (tgt := 76) X dX1_run_183 (by decide) ?_
          exact V.sub [2, 3, 4, 5, 6, 7, 1, 0] rfl (ihb1 _ (Option.some.inj h).symm)
      refine r_iload X 7 dX1_run_76 rfl ?_
      refine r_aload_n X 0 dX1_run_78 rfl rfl ?_
      obtain ⟨ho6, h⟩ := cO_some h
      refine r_getI (kf := 20) X ho6.1 rfl (by decide) rfl (Or.inl q327) dX1_run_79 ?_
      refine r_icmp_ge (tgt := 186) X dX1_run_82 (by decide) h (fun c7 h => ?_) (fun c7 h => ?_)
      · refine r_iconst X dX1_run_85 ?_
        refine r_istore X dX1_run_86 (hL 12 (by decide)) (lv' := [(12, iv ((-1))), (0, .ref (a0)), (4, iv (x4)), (5, iv (x5)), (6, iv (x6)), (7, .ref (b2)), (8, jv (v8_1)), (10, iv (v10_1)), (11, iv (v11_1))]) rfl ?_
        refine r_aload_n X 1 dX1_run_88 rfl rfl ?_
        refine r_aload X 5 dX1_run_89 rfl ?_
        refine r_aload_n X 1 dX1_run_91 rfl rfl ?_
        refine r_getA (kf := 4) X ho6.1 rfl (by decide) (by decide) (Or.inl q310) dX1_run_92 ?_
        refine r_aload_n X 1 dX1_run_95 rfl rfl ?_
        refine r_getA (kf := 16) X ho6.1 rfl (by decide) (by decide) (Or.inl q323) dX1_run_96 ?_
        refine r_iload X 8 dX1_run_99 rfl ?_
        refine r_iald X ho6.1 (ho6.2 16 (by decide)) rfl rfl rfl (by decide) dX1_run_101 h (fun h => ?_)
        refine r_aald X ho6.1 (ho6.2 4 (by decide)) rfl rfl (by decide) rfl (by decide) dX1_run_102 h (fun b8 h => ?_)
        refine r_aload_n X 1 dX1_run_103 rfl rfl ?_
        refine r_getA (kf := 17) X ho6.1 rfl (by decide) (by decide) (Or.inl q324) dX1_run_104 ?_
        refine r_iload X 8 dX1_run_107 rfl ?_
        refine r_iald X ho6.1 (ho6.2 17 (by decide)) rfl rfl rfl (by decide) dX1_run_109 h (fun h => ?_)
        refine r_aload_n X 1 dX1_run_110 rfl rfl ?_
        refine r_getA (kf := 18) X ho6.1 rfl (by decide) (by decide) (Or.inl q325) dX1_run_111 ?_
        refine r_iload X 8 dX1_run_114 rfl ?_
        refine r_iald X ho6.1 (ho6.2 18 (by decide)) rfl rfl rfl (by decide) dX1_run_116 h (fun h => ?_)
        obtain ⟨r10, σ11, h9, h⟩ := bd2_some h
        refine r_cV (Wd := 0) X (fun l D sz => w_X1_hasWay l D sz h9) ho6.1 rfl q856 qs28 q854 q104 q857 hy_X1_hasWay rfl dX1_run_117 rfl rfl (Nat.le_of_ble_eq_true rfl) ⟨Nat.le_of_ble_eq_true rfl, Nat.le_of_ble_eq_true rfl⟩ ⟨Nat.le_of_ble_eq_true rfl, Nat.le_of_ble_eq_true rfl⟩ ?_
        refine r_if_eq (tgt := 159) X dX1_run_120 (by decide) h (fun c12 h => ?_) (fun c12 h => ?_)
        · exact V.sub [1, 2, 3, 4, 5, 6, 7, 8, 0] rfl (J159 (v8_1) (v10_1) (v11_1) ((-1)) (σ11) h)
        · refine r_lload X 6 dX1_run_123 rfl ?_
          refine r_ldc2 (z := 6364136223846793005) X q1143 dX1_run_125 rfl ?_
          refine r_lmul X dX1_run_128 ?_
          refine r_ldc2 (z := 1442695040888963407) X q1144 dX1_run_129 rfl ?_
          refine r_ladd X dX1_run_132 ?_
          refine r_lstore X dX1_run_133 (hL 9 (by decide)) (lv' := [(8, jv (((v8_1 * 6364136223846793005) + 1442695040888963407))), (12, iv ((-1))), (0, .ref (a0)), (4, iv (x4)), (5, iv (x5)), (6, iv (x6)), (7, .ref (b2)), (10, iv (v10_1)), (11, iv (v11_1))]) rfl ?_
          refine r_aload_n X 2 dX1_run_135 rfl rfl ?_
          refine r_aload X 6 dX1_run_136 rfl ?_
          refine r_iload X 8 dX1_run_138 rfl ?_
          refine r_lload X 0 dX1_run_140 rfl ?_
          refine r_bipush X dX1_run_142 (by decide) ?_
          refine r_lushr X dX1_run_144 ?_
          refine r_iload X 3 dX1_run_145 rfl ?_
          refine r_iconst X dX1_run_147 ?_
          refine r_iadd X dX1_run_148 ?_
          obtain ⟨c13, h⟩ := ck_some h
          refine r_i2l X dX1_run_149 c13 ?_
          obtain ⟨⟨c14, c15, c16⟩, h⟩ := ck_some h
          refine r_lrem X dX1_run_150 c14 c15 c16 ?_
          refine r_l2i X dX1_run_151 ?_
          refine r_iload X 4 dX1_run_152 rfl ?_
          obtain ⟨ho18, h⟩ := cO_some h
          obtain ⟨r19, σ20, h17, h⟩ := bd2_some h
          refine r_cV (Wd := 0) X (fun l D sz => w_X1_tenthsOfPlan l D sz h17) ho18.1 rfl q1147 qs42 q1145 q104 q1148 hy_X1_tenthsOfPlan rfl dX1_run_154 rfl rfl (Nat.le_of_ble_eq_true rfl) ⟨Nat.le_of_ble_eq_true rfl, Nat.le_of_ble_eq_true rfl⟩ ⟨Nat.le_of_ble_eq_true rfl, Nat.le_of_ble_eq_true rfl⟩ ?_
          refine r_istore X dX1_run_157 (hL 12 (by decide)) (lv' := [(12, iv (r19)), (8, jv (((v8_1 * 6364136223846793005) + 1442695040888963407))), (0, .ref (a0)), (4, iv (x4)), (5, iv (x5)), (6, iv (x6)), (7, .ref (b2)), (10, iv (v10_1)), (11, iv (v11_1))]) rfl ?_
          exact V.sub [2, 3, 4, 5, 6, 1, 7, 8, 0] rfl (J159 (((v8_1 * 6364136223846793005) + 1442695040888963407)) (v10_1) (v11_1) (r19) (σ20) h)
      · have h := ex_some h ihe1
        refine r_iload X 6 dX1_run_186 rfl ?_
        cases h
        exact r_iret X hr dX1_run_188
    exact V.sub [4, 7, 8, 9, 3, 2, 1, 0] rfl (L76 (y2, 0, 0, σ_j59) h)
  refine r_aload_n X 0 dX1_run_0 rfl rfl ?_
  refine r_iload_n X 1 dX1_run_1 rfl rfl ?_
  obtain ⟨r22, h21, h⟩ := bd_some h
  refine r_cV (Wd := 0) X (fun l D sz => w_X1_isHead l D sz h21) ho0.1 rfl q852 qs27 q850 q104 q853 hy_X1_isHead rfl dX1_run_2 rfl rfl (Nat.le_of_ble_eq_true rfl) ⟨Nat.le_of_ble_eq_true rfl, Nat.le_of_ble_eq_true rfl⟩ ⟨Nat.le_of_ble_eq_true rfl, Nat.le_of_ble_eq_true rfl⟩ ?_
  refine r_if_eq (tgt := 57) X dX1_run_5 (by decide) h (fun c23 h => ?_) (fun c23 h => ?_)
  · refine r_iconst X dX1_run_57 ?_
    cases h
    exact r_iret X hr dX1_run_58
  · refine r_iload X 3 dX1_run_8 rfl ?_
    obtain ⟨c24, h⟩ := ck_some h
    refine r_i2l X dX1_run_10 c24 ?_
    refine r_lconst (y := 0) X dX1_run_11 rfl ?_
    refine r_ldc2 (z := 99) X q1142 dX1_run_12 rfl ?_
    obtain ⟨r26, h25, h⟩ := bd_some h
    refine r_cS (Wd := 0) X (fun l D sz => w_X1_isIn l D sz h25) q414 q413 q104 q415 hy_X1_isIn rfl dX1_run_15 rfl rfl (Nat.le_of_ble_eq_true rfl) ⟨Nat.le_of_ble_eq_true rfl, Nat.le_of_ble_eq_true rfl⟩ ⟨Nat.le_of_ble_eq_true rfl, Nat.le_of_ble_eq_true rfl⟩ ?_
    refine r_if_eq (tgt := 57) X dX1_run_18 (by decide) h (fun c27 h => ?_) (fun c27 h => ?_)
    · refine r_iconst X dX1_run_57 ?_
      cases h
      exact r_iret X hr dX1_run_58
    · refine r_iload X 4 dX1_run_21 rfl ?_
      obtain ⟨c28, h⟩ := ck_some h
      refine r_i2l X dX1_run_23 c28 ?_
      refine r_lconst (y := 0) X dX1_run_24 rfl ?_
      refine r_ldc2 (z := 99) X q1142 dX1_run_25 rfl ?_
      obtain ⟨r30, h29, h⟩ := bd_some h
      refine r_cS (Wd := 0) X (fun l D sz => w_X1_isIn l D sz h29) q414 q413 q104 q415 hy_X1_isIn rfl dX1_run_28 rfl rfl (Nat.le_of_ble_eq_true rfl) ⟨Nat.le_of_ble_eq_true rfl, Nat.le_of_ble_eq_true rfl⟩ ⟨Nat.le_of_ble_eq_true rfl, Nat.le_of_ble_eq_true rfl⟩ ?_
      refine r_if_eq (tgt := 57) X dX1_run_31 (by decide) h (fun c31 h => ?_) (fun c31 h => ?_)
      · refine r_iconst X dX1_run_57 ?_
        cases h
        exact r_iret X hr dX1_run_58
      · refine r_iload X 5 dX1_run_34 rfl ?_
        refine r_iconst X dX1_run_36 ?_
        refine r_icmp_eq (tgt := 59) X dX1_run_37 (by decide) h (fun c32 h => ?_) (fun c32 h => ?_)
        · exact V.sub [0, 1, 2, 3, 4, 5] rfl (J59 (σ) h)
        · refine r_iload X 5 dX1_run_40 rfl ?_
          obtain ⟨c33, h⟩ := ck_some h
          refine r_i2l X dX1_run_42 c33 ?_
          refine r_lconst (y := 0) X dX1_run_43 rfl ?_
          refine r_aload_n X 0 dX1_run_44 rfl rfl ?_
          refine r_getI (kf := 20) X ho0.1 rfl (by decide) rfl (Or.inl q327) dX1_run_45 ?_
          refine r_iconst X dX1_run_48 ?_
          refine r_isub X dX1_run_49 ?_
          obtain ⟨c34, h⟩ := ck_some h
          refine r_i2l X dX1_run_50 c34 ?_
          obtain ⟨r36, h35, h⟩ := bd_some h
          refine r_cS (Wd := 0) X (fun l D sz => w_X1_isIn l D sz h35) q414 q413 q104 q415 hy_X1_isIn rfl dX1_run_51 rfl rfl (Nat.le_of_ble_eq_true rfl) ⟨Nat.le_of_ble_eq_true rfl, Nat.le_of_ble_eq_true rfl⟩ ⟨Nat.le_of_ble_eq_true rfl, Nat.le_of_ble_eq_true rfl⟩ ?_
          refine r_if_ne (tgt := 59) X dX1_run_54 (by decide) h (fun c37 h => ?_) (fun c37 h => ?_)
          · refine r_iconst X dX1_run_57 ?_
            cases h
            exact r_iret X hr dX1_run_58
          · exact V.sub [0, 1, 2, 3, 4, 5] rfl (J59 (σ) h)
theorem hy_X1_areYears : yX1_areYears.cls ≠ "java/lang/invoke/MethodHandle" ∧ yX1_areYears.cls ≠ "java/lang/invoke/VarHandle" ∧ (parseMethodDescriptor yX1_areYears.desc).map (fun d => d.parameters.length) = some 2 := by decide +kernel
set_option maxHeartbeats 4000000 in
theorem w_X1_areYears (l : Launch) (D : DD) (sz : Nat) {σ : St} {x0 : Int} {x1 : Int} {w : Int} (h : f_X1_areYears σ x0 x1 = some w) : Mt l yX1_areYears cX1_areYears 2 (some FieldType.boolean) ({ frames := 2, cells := 0, slots := 0, locals := 29 } : Room) D sz σ [iv (x0), iv (x1)] (.returned (some (iv w))) (σ) 0 0 := by
  refine Mt.of (by decide +kernel) (Nat.le_of_ble_eq_true rfl) ?_
  intro Γ X hr hnl hini hnoh
  have X : Cx Γ cX1_areYears "DayBoy" _ := X
  have hL : ∀ i, i < 2 → i < nLc Γ := fun i q => by rw [hnl]; exact q
  show V Γ σ 0 0 0 [(0, iv (x0)), (1, iv (x1))] []
  unfold f_X1_areYears at h
  refine r_iload_n X 0 dX1_areYears_0 rfl rfl ?_
  obtain ⟨r2, h1, h⟩ := bd_some h
  refine r_cS (Wd := 0) X (fun l D sz => w_X1_isYear l D sz h1) q820 q819 q104 q821 hy_X1_isYear rfl dX1_areYears_1 rfl rfl (Nat.le_of_ble_eq_true rfl) ⟨Nat.le_of_ble_eq_true rfl, Nat.le_of_ble_eq_true rfl⟩ ⟨Nat.le_of_ble_eq_true rfl, Nat.le_of_ble_eq_true rfl⟩ ?_
  refine r_if_eq (tgt := 24) X dX1_areYears_4 (by decide) h (fun c3 h => ?_) (fun c3 h => ?_)
  · refine r_iconst X dX1_areYears_24 ?_
    cases h
    exact r_zret X hr (by decide) dX1_areYears_25
  · refine r_iload_n X 1 dX1_areYears_7 rfl rfl ?_
    obtain ⟨c5, h⟩ := ck_some h
    refine r_i2l X dX1_areYears_8 c5 ?_
    refine r_iload_n X 0 dX1_areYears_9 rfl rfl ?_
    obtain ⟨c6, h⟩ := ck_some h
    refine r_i2l X dX1_areYears_10 c6 ?_
    refine r_ldc2 (z := 9999) X q822 dX1_areYears_11 rfl ?_
    obtain ⟨r8, h7, h⟩ := bd_some h
    refine r_cS (Wd := 0) X (fun l D sz => w_X1_isIn l D sz h7) q414 q413 q104 q415 hy_X1_isIn rfl dX1_areYears_14 rfl rfl (Nat.le_of_ble_eq_true rfl) ⟨Nat.le_of_ble_eq_true rfl, Nat.le_of_ble_eq_true rfl⟩ ⟨Nat.le_of_ble_eq_true rfl, Nat.le_of_ble_eq_true rfl⟩ ?_
    refine r_if_eq (tgt := 24) X dX1_areYears_17 (by decide) h (fun c9 h => ?_) (fun c9 h => ?_)
    · refine r_iconst X dX1_areYears_24 ?_
      cases h
      exact r_zret X hr (by decide) dX1_areYears_25
    · refine r_iconst X dX1_areYears_20 ?_
      refine r_goto (tgt := 25) X dX1_areYears_21 (by decide) ?_
      cases h
      exact r_zret X hr (by decide) dX1_areYears_25
theorem hy_X1_holds_2 : yX1_holds_2.cls ≠ "java/lang/invoke/MethodHandle" ∧ yX1_holds_2.cls ≠ "java/lang/invoke/VarHandle" ∧ (parseMethodDescriptor yX1_holds_2.desc).map (fun d => d.parameters.length) = some 6 := by decide +kernel
set_option maxHeartbeats 4000000 in
theorem w_X1_holds_2 (l : Launch) (D : DD) (sz : Nat) {σ : St} {a0 : Nat} {x1 : Int} {x2 : Int} {x3 : Int} {x4 : Int} {x5 : Int} {x6 : Int} {w : Int} (h : f_X1_holds_2 σ a0 x1 x2 x3 x4 x5 x6 = some w) : Mt l yX1_holds_2 cX1_holds_2 11 (some FieldType.int) ({ frames := 9, cells := 0, slots := 0, locals := 139 } : Room) D sz σ [.ref a0, iv (x1), iv (x2), iv (x3), iv (x4), iv (x5), iv (x6)] (.returned (some (iv w))) (σ) 0 0 := by
  refine Mt.of (by decide +kernel) (Nat.le_of_ble_eq_true rfl) ?_
  intro Γ X hr hnl hini hnoh
  have X : Cx Γ cX1_holds_2 "DayBoy" _ := X
  have hL : ∀ i, i < 11 → i < nLc Γ := fun i q => by rw [hnl]; exact q
  show V Γ σ 0 0 0 [(0, .ref (a0)), (1, iv (x1)), (2, iv (x2)), (3, iv (x3)), (4, iv (x4)), (5, iv (x5)), (6, iv (x6))] []
  unfold f_X1_holds_2 at h
  obtain ⟨ho0, h⟩ := cO_some h
  have J78 : ∀ (v7_j78 : Nat) (v8_j78 : Nat) (t0_j78 : Int) (t1_j78 : Int), f_X1_holds_2_j78 (σ) (x3) (x4) (x5) (x6) v7_j78 v8_j78 t0_j78 t1_j78 = some w → V Γ σ 0 0 78 [(3, iv (x3)), (4, iv (x4)), (5, iv (x5)), (6, iv (x6)), (7, .ref (v7_j78)), (8, .ref (v8_j78))] [iv (t0_j78), iv (t1_j78)] := by
    intro v7_j78 v8_j78 t0_j78 t1_j78 h
    unfold f_X1_holds_2_j78 at h
    refine r_icmp_lt (tgt := 83) X dX1_holds_2_78 (by decide) h (fun c1 h => ?_) (fun c1 h => ?_)
    · refine r_iconst X dX1_holds_2_83 ?_
      refine r_istore X dX1_holds_2_84 (hL 9 (by decide)) (lv' := [(9, iv (0)), (3, iv (x3)), (4, iv (x4)), (5, iv (x5)), (6, iv (x6)), (7, .ref (v7_j78)), (8, .ref (v8_j78))]) rfl ?_
      refine r_iload X 3 dX1_holds_2_86 rfl ?_
      refine r_istore X dX1_holds_2_88 (hL 10 (by decide)) (lv' := [(10, iv (x5)), (9, iv (0)), (3, iv (x3)), (4, iv (x4)), (5, iv (x5)), (6, iv (x6)), (7, .ref (v7_j78)), (8, .ref (v8_j78))]) rfl ?_
      have L90 : ∀ s : Int × Int, lp (fun s => f_X1_holds_2_b90 (σ) (x3) (x4) (x6) (v7_j78) (v8_j78) s.1 s.2) s = some w → V Γ (σ) 0 0 90 [(3, iv (x3)), (4, iv (x4)), (6, iv (x6)), (7, .ref (v7_j78)), (8, .ref (v8_j78)), (9, iv (s.1)), (10, iv (s.2))] [] := by
        refine lp_rule (P := fun s : Int × Int => V Γ (σ) 0 0 90 [(3, iv (x3)), (4, iv (x4)), (6, iv (x6)), (7, .ref (v7_j78)), (8, .ref (v8_j78)), (9, iv (s.1)), (10, iv (s.2))] []) ?_
        intro s z1 h ihb1 ihe1
        obtain ⟨v9_1, v10_1⟩ := s
        have h : f_X1_holds_2_b90 (σ) (x3) (x4) (x6) (v7_j78) (v8_j78) v9_1 v10_1 = some z1 := h
        unfold f_X1_holds_2_b90 at h
        show V Γ σ 0 0 90 [(3, iv (x3)), (4, iv (x4)), (6, iv (x6)), (7, .ref (v7_j78)), (8, .ref (v8_j78)), (9, iv (v9_1)), (10, iv (v10_1))] []
        refine r_iload X 6 dX1_holds_2_90 rfl ?_
        refine r_iload X 2 dX1_holds_2_92 rfl ?_
        refine r_icmp_gt (tgt := 210) X dX1_holds_2_94 (by decide) h (fun c2 h => ?_) (fun c2 h => ?_)
        · have h := ex_some h ihe1
          refine r_iload X 5 dX1_holds_2_210 rfl ?_
          cases h
          exact r_iret X hr dX1_holds_2_212
        · refine r_iload_n X 0 dX1_holds_2_97 rfl rfl ?_
          refine r_iconst X dX1_holds_2_98 ?_
          refine r_icmp_ne (tgt := 141) X dX1_holds_2_99 (by decide) h (fun c3 h => ?_) (fun c3 h => ?_)
          · refine r_iload X 5 dX1_holds_2_102 rfl ?_
            refine r_aload X 4 dX1_holds_2_104 rfl ?_
            refine r_iload X 6 dX1_holds_2_106 rfl ?_
            refine r_aload X 3 dX1_holds_2_108 rfl ?_
            obtain ⟨ho4, h⟩ := cO_some h
            refine r_getA (kf := 4) X ho4.1 rfl (by decide) (by decide) (Or.inr ⟨_, q216⟩) dX1_holds_2_110 ?_
            refine r_iload X 1 dX1_holds_2_113 rfl ?_
            refine r_iald X ho4.1 (ho4.2 4 (by decide)) rfl rfl rfl (by decide) dX1_holds_2_115 h (fun h => ?_)
            refine r_aload X 3 dX1_holds_2_116 rfl ?_
            refine r_getA (kf := 5) X ho4.1 rfl (by decide) (by decide) (Or.inr ⟨_, q219⟩) dX1_holds_2_118 ?_
            refine r_iload X 1 dX1_holds_2_121 rfl ?_
            refine r_iald X ho4.1 (ho4.2 5 (by decide)) rfl rfl rfl (by decide) dX1_holds_2_123 h (fun h => ?_)
            obtain ⟨r6, h5, h⟩ := bd_some h
            refine r_cS (Wd := 1) X (fun l D sz => w_X1_areAlike l D sz h5) q911 q910 q104 q912 hy_X1_areAlike rfl dX1_holds_2_124 rfl rfl (Nat.le_of_ble_eq_true rfl) ⟨Nat.le_of_ble_eq_true rfl, Nat.le_of_ble_eq_true rfl⟩ ⟨Nat.le_of_ble_eq_true rfl, Nat.le_of_ble_eq_true rfl⟩ ?_
            refine r_if_eq (tgt := 134) X dX1_holds_2_127 (by decide) h (fun c7 h => ?_) (fun c7 h => ?_)
            · refine r_iconst X dX1_holds_2_134 ?_
              refine r_iadd X dX1_holds_2_135 ?_
              refine r_istore X dX1_holds_2_136 (hL 9 (by decide)) (lv' := [(9, iv ((v9_1 + 0))), (3, iv (x3)), (4, iv (x4)), (6, iv (x6)), (7, .ref (v7_j78)), (8, .ref (v8_j78)), (10, iv (v10_1))]) rfl ?_
              refine r_goto (tgt := 204) X dX1_holds_2_138 (by decide) ?_
              refine r_iinc X 6 dX1_holds_2_204 rfl (hL 10 (by decide)) (lv' := [(10, iv ((v10_1 + 1))), (9, iv ((v9_1 + 0))), (3, iv (x3)), (4, iv (x4)), (6, iv (x6)), (7, .ref (v7_j78)), (8, .ref (v8_j78))]) rfl ?_
              refine r_goto (tgt := 90) X dX1_holds_2_207 (by decide) ?_
              exact V.sub [2, 3, 4, 5, 6, 1, 0] rfl (ihb1 _ (Option.some.inj h).symm)
            · refine r_iconst X dX1_holds_2_130 ?_
              refine r_goto (tgt := 135) X dX1_holds_2_131 (by decide) ?_
              refine r_iadd X dX1_holds_2_135 ?_
              refine r_istore X dX1_holds_2_136 (hL 9 (by decide)) (lv' := [(9, iv ((v9_1 + 1))), (3, iv (x3)), (4, iv (x4)), (6, iv (x6)), (7, .ref (v7_j78)), (8, .ref (v8_j78)), (10, iv (v10_1))]) rfl ?_
              refine r_goto (tgt := 204) X dX1_holds_2_138 (by decide) ?_
              refine r_iinc X 6 dX1_holds_2_204 rfl (hL 10 (by decide)) (lv' := [(10, iv ((v10_1 + 1))), (9, iv ((v9_1 + 1))), (3, iv (x3)), (4, iv (x4)), (6, iv (x6)), (7, .ref (v7_j78)), (8, .ref (v8_j78))]) rfl ?_
              refine r_goto (tgt := 90) X dX1_holds_2_207 (by decide) ?_
              exact V.sub [2, 3, 4, 5, 6, 1, 0] rfl (ihb1 _ (Option.some.inj h).symm)
          · refine r_iload X 6 dX1_holds_2_141 rfl ?_
            refine r_aload X 3 dX1_holds_2_143 rfl ?_
            obtain ⟨ho8, h⟩ := cO_some h
            refine r_getA (kf := 2) X ho8.1 rfl (by decide) (by decide) (Or.inr ⟨_, q210⟩) dX1_holds_2_145 ?_
            refine r_iload X 1 dX1_holds_2_148 rfl ?_
            refine r_iald X ho8.1 (ho8.2 2 (by decide)) rfl rfl rfl (by decide) dX1_holds_2_150 h (fun h => ?_)
            refine r_iadd X dX1_holds_2_151 ?_
            refine r_iload X 2 dX1_holds_2_152 rfl ?_
            refine r_icmp_gt (tgt := 204) X dX1_holds_2_154 (by decide) h (fun c9 h => ?_) (fun c9 h => ?_)
            · refine r_iinc X 6 dX1_holds_2_204 rfl (hL 10 (by decide)) (lv' := [(10, iv ((v10_1 + 1))), (3, iv (x3)), (4, iv (x4)), (6, iv (x6)), (7, .ref (v7_j78)), (8, .ref (v8_j78)), (9, iv (v9_1))]) rfl ?_
              refine r_goto (tgt := 90) X dX1_holds_2_207 (by decide) ?_
              exact V.sub [1, 2, 3, 4, 5, 6, 0] rfl (ihb1 _ (Option.some.inj h).symm)
            · refine r_iload X 5 dX1_holds_2_157 rfl ?_
              refine r_aload X 4 dX1_holds_2_159 rfl ?_
              refine r_iload X 6 dX1_holds_2_161 rfl ?_
              obtain ⟨ho11, h⟩ := cO_some h
              obtain ⟨r12, h10, h⟩ := bd_some h
              refine r_cV (Wd := 1) X (fun l D sz => w_X2_kind l D sz h10) ho11.1 rfl q834 q835 q833 q105 q836 hy_X2_kind rfl dX1_holds_2_163 rfl rfl (Nat.le_of_ble_eq_true rfl) ⟨Nat.le_of_ble_eq_true rfl, Nat.le_of_ble_eq_true rfl⟩ ⟨Nat.le_of_ble_eq_true rfl, Nat.le_of_ble_eq_true rfl⟩ ?_
              refine r_iconst X dX1_holds_2_166 ?_
              refine r_icmp_eq (tgt := 200) X dX1_holds_2_167 (by decide) h (fun c13 h => ?_) (fun c13 h => ?_)
              · refine r_iconst X dX1_holds_2_200 ?_
                refine r_iadd X dX1_holds_2_201 ?_
                refine r_istore X dX1_holds_2_202 (hL 9 (by decide)) (lv' := [(9, iv ((v9_1 + 0))), (3, iv (x3)), (4, iv (x4)), (6, iv (x6)), (7, .ref (v7_j78)), (8, .ref (v8_j78)), (10, iv (v10_1))]) rfl ?_
                refine r_iinc X 6 dX1_holds_2_204 rfl (hL 10 (by decide)) (lv' := [(10, iv ((v10_1 + 1))), (9, iv ((v9_1 + 0))), (3, iv (x3)), (4, iv (x4)), (6, iv (x6)), (7, .ref (v7_j78)), (8, .ref (v8_j78))]) rfl ?_
                refine r_goto (tgt := 90) X dX1_holds_2_207 (by decide) ?_
                exact V.sub [2, 3, 4, 5, 6, 1, 0] rfl (ihb1 _ (Option.some.inj h).symm)
              · refine r_aload X 4 dX1_holds_2_170 rfl ?_
                refine r_iload X 6 dX1_holds_2_172 rfl ?_
                obtain ⟨r15, h14, h⟩ := bd_some h
                refine r_cV (Wd := 1) X (fun l D sz => w_X2_kind l D sz h14) ho11.1 rfl q834 q835 q833 q105 q836 hy_X2_kind rfl dX1_holds_2_174 rfl rfl (Nat.le_of_ble_eq_true rfl) ⟨Nat.le_of_ble_eq_true rfl, Nat.le_of_ble_eq_true rfl⟩ ⟨Nat.le_of_ble_eq_true rfl, Nat.le_of_ble_eq_true rfl⟩ ?_
                refine r_aload X 4 dX1_holds_2_177 rfl ?_
                refine r_iload X 6 dX1_holds_2_179 rfl ?_
                refine r_aload X 3 dX1_holds_2_181 rfl ?_
                refine r_getA (kf := 2) X ho8.1 rfl (by decide) (by decide) (Or.inr ⟨_, q210⟩) dX1_holds_2_183 ?_
                refine r_iload X 1 dX1_holds_2_186 rfl ?_
                refine r_iald X ho8.1 (ho8.2 2 (by decide)) rfl rfl rfl (by decide) dX1_holds_2_188 h (fun h => ?_)
                refine r_iadd X dX1_holds_2_189 ?_
                obtain ⟨r17, h16, h⟩ := bd_some h
                refine r_cV (Wd := 2) X (fun l D sz => w_X2_kind l D sz h16) ho11.1 rfl q834 q835 q833 q105 q836 hy_X2_kind rfl dX1_holds_2_190 rfl rfl (Nat.le_of_ble_eq_true rfl) ⟨Nat.le_of_ble_eq_true rfl, Nat.le_of_ble_eq_true rfl⟩ ⟨Nat.le_of_ble_eq_true rfl, Nat.le_of_ble_eq_true rfl⟩ ?_
                refine r_icmp_ne (tgt := 200) X dX1_holds_2_193 (by decide) h (fun c18 h => ?_) (fun c18 h => ?_)
                · refine r_iconst X dX1_holds_2_196 ?_
                  refine r_goto (tgt := 201) X dX1_holds_2_197 (by decide) ?_
                  refine r_iadd X dX1_holds_2_201 ?_
                  refine r_istore X dX1_holds_2_202 (hL 9 (by decide)) (lv' := [(9, iv ((v9_1 + 1))), (3, iv (x3)), (4, iv (x4)), (6, iv (x6)), (7, .ref (v7_j78)), (8, .ref (v8_j78)), (10, iv (v10_1))]) rfl ?_
                  refine r_iinc X 6 dX1_holds_2_204 rfl (hL 10 (by decide)) (lv' := [(10, iv ((v10_1 + 1))), (9, iv ((v9_1 + 1))), (3, iv (x3)), (4, iv (x4)), (6, iv (x6)), (7, .ref (v7_j78)), (8, .ref (v8_j78))]) rfl ?_
                  refine r_goto (tgt := 90) X dX1_holds_2_207 (by decide) ?_
                  exact V.sub [2, 3, 4, 5, 6, 1, 0] rfl (ihb1 _ (Option.some.inj h).symm)
                · refine r_iconst X dX1_holds_2_200 ?_
                  refine r_iadd X dX1_holds_2_201 ?_
                  refine r_istore X dX1_holds_2_202 (hL 9 (by decide)) (lv' := [(9, iv ((v9_1 + 0))), (3, iv (x3)), (4, iv (x4)), (6, iv (x6)), (7, .ref (v7_j78)), (8, .ref (v8_j78)), (10, iv (v10_1))]) rfl ?_
                  refine r_iinc X 6 dX1_holds_2_204 rfl (hL 10 (by decide)) (lv' := [(10, iv ((v10_1 + 1))), (9, iv ((v9_1 + 0))), (3, iv (x3)), (4, iv (x4)), (6, iv (x6)), (7, .ref (v7_j78)), (8, .ref (v8_j78))]) rfl ?_
                  refine r_goto (tgt := 90) X dX1_holds_2_207 (by decide) ?_
                  exact V.sub [2, 3, 4, 5, 6, 1, 0] rfl (ihb1 _ (Option.some.inj h).symm)
      exact V.sub [2, 3, 5, 6, 7, 1, 0] rfl (L90 (0, x5) h)
    · refine r_iconst X dX1_holds_2_81 ?_
      cases h
      exact r_iret X hr dX1_holds_2_82
  refine r_aload_n X 0 dX1_holds_2_0 rfl rfl ?_
  refine r_iload_n X 1 dX1_holds_2_1 rfl rfl ?_
  obtain ⟨r20, h19, h⟩ := bd_some h
  refine r_cV (Wd := 0) X (fun l D sz => w_X1_isHead l D sz h19) ho0.1 rfl q852 qs27 q850 q104 q853 hy_X1_isHead rfl dX1_holds_2_2 rfl rfl (Nat.le_of_ble_eq_true rfl) ⟨Nat.le_of_ble_eq_true rfl, Nat.le_of_ble_eq_true rfl⟩ ⟨Nat.le_of_ble_eq_true rfl, Nat.le_of_ble_eq_true rfl⟩ ?_
  refine r_if_eq (tgt := 41) X dX1_holds_2_5 (by decide) h (fun c21 h => ?_) (fun c21 h => ?_)
  · refine r_iconst X dX1_holds_2_41 ?_
    cases h
    exact r_iret X hr dX1_holds_2_42
  · refine r_aload_n X 0 dX1_holds_2_8 rfl rfl ?_
    refine r_iload_n X 2 dX1_holds_2_9 rfl rfl ?_
    obtain ⟨r23, h22, h⟩ := bd_some h
    refine r_cV (Wd := 0) X (fun l D sz => w_X1_isCalendar l D sz h22) ho0.1 rfl q751 qs22 q749 q104 q752 hy_X1_isCalendar rfl dX1_holds_2_10 rfl rfl (Nat.le_of_ble_eq_true rfl) ⟨Nat.le_of_ble_eq_true rfl, Nat.le_of_ble_eq_true rfl⟩ ⟨Nat.le_of_ble_eq_true rfl, Nat.le_of_ble_eq_true rfl⟩ ?_
    refine r_if_eq (tgt := 41) X dX1_holds_2_13 (by decide) h (fun c24 h => ?_) (fun c24 h => ?_)
    · refine r_iconst X dX1_holds_2_41 ?_
      cases h
      exact r_iret X hr dX1_holds_2_42
    · refine r_iload X 5 dX1_holds_2_16 rfl ?_
      refine r_iload X 6 dX1_holds_2_18 rfl ?_
      obtain ⟨r26, h25, h⟩ := bd_some h
      refine r_cS (Wd := 0) X (fun l D sz => w_X1_areYears l D sz h25) q1158 q1157 q104 q1159 hy_X1_areYears rfl dX1_holds_2_20 rfl rfl (Nat.le_of_ble_eq_true rfl) ⟨Nat.le_of_ble_eq_true rfl, Nat.le_of_ble_eq_true rfl⟩ ⟨Nat.le_of_ble_eq_true rfl, Nat.le_of_ble_eq_true rfl⟩ ?_
      refine r_if_eq (tgt := 41) X dX1_holds_2_23 (by decide) h (fun c27 h => ?_) (fun c27 h => ?_)
      · refine r_iconst X dX1_holds_2_41 ?_
        cases h
        exact r_iret X hr dX1_holds_2_42
      · refine r_iload_n X 3 dX1_holds_2_26 rfl rfl ?_
        obtain ⟨c28, h⟩ := ck_some h
        refine r_i2l X dX1_holds_2_27 c28 ?_
        refine r_lconst (y := 0) X dX1_holds_2_28 rfl ?_
        refine r_lconst (y := 1) X dX1_holds_2_29 rfl ?_
        obtain ⟨r30, h29, h⟩ := bd_some h
        refine r_cS (Wd := 0) X (fun l D sz => w_X1_isIn l D sz h29) q414 q413 q104 q415 hy_X1_isIn rfl dX1_holds_2_30 rfl rfl (Nat.le_of_ble_eq_true rfl) ⟨Nat.le_of_ble_eq_true rfl, Nat.le_of_ble_eq_true rfl⟩ ⟨Nat.le_of_ble_eq_true rfl, Nat.le_of_ble_eq_true rfl⟩ ?_
        refine r_if_eq (tgt := 41) X dX1_holds_2_33 (by decide) h (fun c31 h => ?_) (fun c31 h => ?_)
        · refine r_iconst X dX1_holds_2_41 ?_
          cases h
          exact r_iret X hr dX1_holds_2_42
        · refine r_iload X 4 dX1_holds_2_36 rfl ?_
          refine r_if_ge (tgt := 43) X dX1_holds_2_38 (by decide) h (fun c32 h => ?_) (fun c32 h => ?_)
          · refine r_iconst X dX1_holds_2_41 ?_
            cases h
            exact r_iret X hr dX1_holds_2_42
          · refine r_aload_n X 0 dX1_holds_2_43 rfl rfl ?_
            refine r_getA (kf := 5) X ho0.1 rfl (by decide) (by decide) (Or.inl q311) dX1_holds_2_44 ?_
            refine r_iload_n X 1 dX1_holds_2_47 rfl rfl ?_
            refine r_aald X ho0.1 (ho0.2 5 (by decide)) rfl rfl (by decide) rfl (by decide) dX1_holds_2_48 h (fun b33 h => ?_)
            refine r_astore X dX1_holds_2_49 (hL 7 (by decide)) (lv' := [(7, .ref (b33)), (0, .ref (a0)), (1, iv (x1)), (2, iv (x2)), (3, iv (x3)), (4, iv (x4)), (5, iv (x5)), (6, iv (x6))]) rfl ?_
            refine r_aload_n X 1 dX1_holds_2_51 rfl rfl ?_
            refine r_getA (kf := 4) X ho0.1 rfl (by decide) (by decide) (Or.inl q310) dX1_holds_2_52 ?_
            refine r_iload_n X 3 dX1_holds_2_55 rfl rfl ?_
            refine r_aald X ho0.1 (ho0.2 4 (by decide)) rfl rfl (by decide) rfl (by decide) dX1_holds_2_56 h (fun b34 h => ?_)
            refine r_astore X dX1_holds_2_57 (hL 8 (by decide)) (lv' := [(8, .ref (b34)), (7, .ref (b33)), (0, .ref (a0)), (1, iv (x1)), (2, iv (x2)), (3, iv (x3)), (4, iv (x4)), (5, iv (x5)), (6, iv (x6))]) rfl ?_
            refine r_iload X 6 dX1_holds_2_59 rfl ?_
            refine r_iload_n X 5 dX1_holds_2_61 rfl rfl ?_
            refine r_if_ne (tgt := 73) X dX1_holds_2_62 (by decide) h (fun c35 h => ?_) (fun c35 h => ?_)
            · refine r_aload X 1 dX1_holds_2_65 rfl ?_
              obtain ⟨ho36, h⟩ := cO_some h
              refine r_getI (kf := 14) X ho36.1 rfl (by decide) rfl (Or.inr ⟨_, q240⟩) dX1_holds_2_67 ?_
              refine r_goto (tgt := 78) X dX1_holds_2_70 (by decide) ?_
              exact V.sub [5, 6, 7, 8, 1, 0] rfl (J78 (b33) (b34) ((gI (σ) (b33) 14 0)) (x4) h)
            · refine r_aload X 1 dX1_holds_2_73 rfl ?_
              obtain ⟨ho37, h⟩ := cO_some h
              refine r_getI (kf := 15) X ho37.1 rfl (by decide) rfl (Or.inr ⟨_, q244⟩) dX1_holds_2_75 ?_
              exact V.sub [5, 6, 7, 8, 1, 0] rfl (J78 (b33) (b34) ((gI (σ) (b33) 15 0)) (x4) h)
theorem hy_X1_right : yX1_right.cls ≠ "java/lang/invoke/MethodHandle" ∧ yX1_right.cls ≠ "java/lang/invoke/VarHandle" ∧ (parseMethodDescriptor yX1_right.desc).map (fun d => d.parameters.length) = some 4 := by decide +kernel
set_option maxHeartbeats 4000000 in
theorem w_X1_right (l : Launch) (D : DD) (sz : Nat) {σ : St} {a0 : Nat} {x1 : Int} {x2 : Int} {x3 : Int} {x4 : Int} {w : Int × St} (h : f_X1_right σ a0 x1 x2 x3 x4 = some w) : Mt l yX1_right cX1_right 10 (some FieldType.int) ({ frames := 9, cells := 0, slots := 0, locals := 139 } : Room) D sz σ [.ref a0, iv (x1), iv (x2), iv (x3), iv (x4)] (.returned (some (iv w.1))) (w.2) 0 0 := by
  refine Mt.of (by decide +kernel) (Nat.le_of_ble_eq_true rfl) ?_
  intro Γ X hr hnl hini hnoh
  have X : Cx Γ cX1_right "DayBoy" _ := X
  have hL : ∀ i, i < 10 → i < nLc Γ := fun i q => by rw [hnl]; exact q
  show V Γ σ 0 0 0 [(0, .ref (a0)), (1, iv (x1)), (2, iv (x2)), (3, iv (x3)), (4, iv (x4))] []
  unfold f_X1_right at h
  obtain ⟨ho0, h⟩ := cO_some h
  refine r_aload_n X 0 dX1_right_0 rfl rfl ?_
  refine r_iload_n X 1 dX1_right_1 rfl rfl ?_
  obtain ⟨r2, h1, h⟩ := bd_some h
  refine r_cV (Wd := 0) X (fun l D sz => w_X1_isHead l D sz h1) ho0.1 rfl q852 qs27 q850 q104 q853 hy_X1_isHead rfl dX1_right_2 rfl rfl (Nat.le_of_ble_eq_true rfl) ⟨Nat.le_of_ble_eq_true rfl, Nat.le_of_ble_eq_true rfl⟩ ⟨Nat.le_of_ble_eq_true rfl, Nat.le_of_ble_eq_true rfl⟩ ?_
  refine r_if_eq (tgt := 34) X dX1_right_5 (by decide) h (fun c3 h => ?_) (fun c3 h => ?_)
  · refine r_iconst X dX1_right_34 ?_
    cases h
    exact r_iret X hr dX1_right_35
  · refine r_aload_n X 0 dX1_right_8 rfl rfl ?_
    refine r_iload_n X 2 dX1_right_9 rfl rfl ?_
    obtain ⟨r5, h4, h⟩ := bd_some h
    refine r_cV (Wd := 0) X (fun l D sz => w_X1_isCalendar l D sz h4) ho0.1 rfl q751 qs22 q749 q104 q752 hy_X1_isCalendar rfl dX1_right_10 rfl rfl (Nat.le_of_ble_eq_true rfl) ⟨Nat.le_of_ble_eq_true rfl, Nat.le_of_ble_eq_true rfl⟩ ⟨Nat.le_of_ble_eq_true rfl, Nat.le_of_ble_eq_true rfl⟩ ?_
    refine r_if_eq (tgt := 34) X dX1_right_13 (by decide) h (fun c6 h => ?_) (fun c6 h => ?_)
    · refine r_iconst X dX1_right_34 ?_
      cases h
      exact r_iret X hr dX1_right_35
    · refine r_iload_n X 3 dX1_right_16 rfl rfl ?_
      obtain ⟨r8, h7, h⟩ := bd_some h
      refine r_cS (Wd := 0) X (fun l D sz => w_X1_isYear l D sz h7) q820 q819 q104 q821 hy_X1_isYear rfl dX1_right_17 rfl rfl (Nat.le_of_ble_eq_true rfl) ⟨Nat.le_of_ble_eq_true rfl, Nat.le_of_ble_eq_true rfl⟩ ⟨Nat.le_of_ble_eq_true rfl, Nat.le_of_ble_eq_true rfl⟩ ?_
      refine r_if_eq (tgt := 34) X dX1_right_20 (by decide) h (fun c9 h => ?_) (fun c9 h => ?_)
      · refine r_iconst X dX1_right_34 ?_
        cases h
        exact r_iret X hr dX1_right_35
      · refine r_iload X 4 dX1_right_23 rfl ?_
        obtain ⟨c10, h⟩ := ck_some h
        refine r_i2l X dX1_right_25 c10 ?_
        refine r_lconst (y := 0) X dX1_right_26 rfl ?_
        refine r_lconst (y := 1) X dX1_right_27 rfl ?_
        obtain ⟨r12, h11, h⟩ := bd_some h
        refine r_cS (Wd := 0) X (fun l D sz => w_X1_isIn l D sz h11) q414 q413 q104 q415 hy_X1_isIn rfl dX1_right_28 rfl rfl (Nat.le_of_ble_eq_true rfl) ⟨Nat.le_of_ble_eq_true rfl, Nat.le_of_ble_eq_true rfl⟩ ⟨Nat.le_of_ble_eq_true rfl, Nat.le_of_ble_eq_true rfl⟩ ?_
        refine r_if_ne (tgt := 36) X dX1_right_31 (by decide) h (fun c13 h => ?_) (fun c13 h => ?_)
        · refine r_iconst X dX1_right_34 ?_
          cases h
          exact r_iret X hr dX1_right_35
        · refine r_aload_n X 0 dX1_right_36 rfl rfl ?_
          refine r_getA (kf := 5) X ho0.1 rfl (by decide) (by decide) (Or.inl q311) dX1_right_37 ?_
          refine r_iload_n X 1 dX1_right_40 rfl rfl ?_
          refine r_aald X ho0.1 (ho0.2 5 (by decide)) rfl rfl (by decide) rfl (by decide) dX1_right_41 h (fun b14 h => ?_)
          refine r_astore X dX1_right_42 (hL 5 (by decide)) (lv' := [(5, .ref (b14)), (0, .ref (a0)), (1, iv (x1)), (2, iv (x2)), (3, iv (x3)), (4, iv (x4))]) rfl ?_
          refine r_aload_n X 1 dX1_right_44 rfl rfl ?_
          refine r_getA (kf := 4) X ho0.1 rfl (by decide) (by decide) (Or.inl q310) dX1_right_45 ?_
          refine r_iload_n X 3 dX1_right_48 rfl rfl ?_
          refine r_aald X ho0.1 (ho0.2 4 (by decide)) rfl rfl (by decide) rfl (by decide) dX1_right_49 h (fun b15 h => ?_)
          refine r_astore X dX1_right_50 (hL 6 (by decide)) (lv' := [(6, .ref (b15)), (5, .ref (b14)), (0, .ref (a0)), (1, iv (x1)), (2, iv (x2)), (3, iv (x3)), (4, iv (x4))]) rfl ?_
          refine r_iconst X dX1_right_52 ?_
          refine r_istore X dX1_right_53 (hL 7 (by decide)) (lv' := [(7, iv (0)), (6, .ref (b15)), (5, .ref (b14)), (0, .ref (a0)), (1, iv (x1)), (2, iv (x2)), (3, iv (x3)), (4, iv (x4))]) rfl ?_
          refine r_iconst X dX1_right_55 ?_
          refine r_istore X dX1_right_56 (hL 8 (by decide)) (lv' := [(8, iv (1)), (7, iv (0)), (6, .ref (b15)), (5, .ref (b14)), (0, .ref (a0)), (1, iv (x1)), (2, iv (x2)), (3, iv (x3)), (4, iv (x4))]) rfl ?_
          have L58 : ∀ s : Int × Int × St, lp (fun s => f_X1_right_b58 (a0) (x3) (x4) (b14) (b15) s.1 s.2.1 s.2.2) s = some w → V Γ (s.2.2) 0 0 58 [(0, .ref (a0)), (3, iv (x3)), (4, iv (x4)), (5, .ref (b14)), (6, .ref (b15)), (7, iv (s.1)), (8, iv (s.2.1))] [] := by
            refine lp_rule (P := fun s : Int × Int × St => V Γ (s.2.2) 0 0 58 [(0, .ref (a0)), (3, iv (x3)), (4, iv (x4)), (5, .ref (b14)), (6, .ref (b15)), (7, iv (s.1)), (8, iv (s.2.1))] []) ?_
            intro s z1 h ihb1 ihe1
            obtain ⟨v7_1, v8_1, σ_1⟩ := s
            have h : f_X1_right_b58 (a0) (x3) (x4) (b14) (b15) v7_1 v8_1 σ_1 = some z1 := h
            unfold f_X1_right_b58 at h
            show V Γ σ_1 0 0 58 [(0, .ref (a0)), (3, iv (x3)), (4, iv (x4)), (5, .ref (b14)), (6, .ref (b15)), (7, iv (v7_1)), (8, iv (v8_1))] []
            refine r_iload X 6 dX1_right_58 rfl ?_
            refine r_bipush X dX1_right_60 (by decide) ?_
            refine r_icmp_ge (tgt := 170) X dX1_right_62 (by decide) h (fun c16 h => ?_) (fun c16 h => ?_)
            · refine r_aload_n X 0 dX1_right_65 rfl rfl ?_
              refine r_aload X 3 dX1_right_66 rfl ?_
              refine r_aload X 4 dX1_right_68 rfl ?_
              refine r_iload_n X 1 dX1_right_70 rfl rfl ?_
              refine r_iload X 6 dX1_right_71 rfl ?_
              obtain ⟨ho18, h⟩ := cO_some h
              obtain ⟨r19, σ20, h17, h⟩ := bd2_some h
              refine r_cV (Wd := 0) X (fun l D sz => w_X1_hasWay l D sz h17) ho18.1 rfl q856 qs28 q854 q104 q857 hy_X1_hasWay rfl dX1_right_73 rfl rfl (Nat.le_of_ble_eq_true rfl) ⟨Nat.le_of_ble_eq_true rfl, Nat.le_of_ble_eq_true rfl⟩ ⟨Nat.le_of_ble_eq_true rfl, Nat.le_of_ble_eq_true rfl⟩ ?_
              refine r_if_ne (tgt := 82) X dX1_right_76 (by decide) h (fun c21 h => ?_) (fun c21 h => ?_)
              · refine r_goto (tgt := 164) X dX1_right_79 (by decide) ?_
                refine r_iinc X 6 dX1_right_164 rfl (hL 8 (by decide)) (lv' := [(8, iv ((v8_1 + 1))), (0, .ref (a0)), (3, iv (x3)), (4, iv (x4)), (5, .ref (b14)), (6, .ref (b15)), (7, iv (v7_1))]) rfl ?_
                refine r_goto (tgt := 58) X dX1_right_167 (by decide) ?_
                exact V.sub [1, 2, 3, 4, 5, 6, 0] rfl (ihb1 _ (Option.some.inj h).symm)
              · refine r_iconst X dX1_right_82 ?_
                refine r_istore X dX1_right_83 (hL 9 (by decide)) (lv' := [(9, iv (1)), (0, .ref (a0)), (3, iv (x3)), (4, iv (x4)), (5, .ref (b14)), (6, .ref (b15)), (7, iv (v7_1)), (8, iv (v8_1))]) rfl ?_
                have L85 : ∀ s : Int × Int × St, lp (fun s => f_X1_right_b85 (a0) (x3) (x4) (b14) (b15) (v8_1) s.1 s.2.1 s.2.2) s = some z1 → V Γ (s.2.2) 0 0 85 [(0, .ref (a0)), (3, iv (x3)), (4, iv (x4)), (5, .ref (b14)), (6, .ref (b15)), (7, iv (s.1)), (8, iv (v8_1)), (9, iv (s.2.1))] [] := by
                  refine lp_rule (P := fun s : Int × Int × St => V Γ (s.2.2) 0 0 85 [(0, .ref (a0)), (3, iv (x3)), (4, iv (x4)), (5, .ref (b14)), (6, .ref (b15)), (7, iv (s.1)), (8, iv (v8_1)), (9, iv (s.2.1))] []) ?_
                  intro s z2 h ihb2 ihe2
                  obtain ⟨v7_2, v9_2, σ_2⟩ := s
                  have h : f_X1_right_b85 (a0) (x3) (x4) (b14) (b15) (v8_1) v7_2 v9_2 σ_2 = some z2 := h
                  unfold f_X1_right_b85 at h
                  show V Γ σ_2 0 0 85 [(0, .ref (a0)), (3, iv (x3)), (4, iv (x4)), (5, .ref (b14)), (6, .ref (b15)), (7, iv (v7_2)), (8, iv (v8_1)), (9, iv (v9_2))] []
                  have J147 : ∀ (v9_j147 : Int) (t0_j147 : Int) (t1_j147 : Int) (t2_j147 : Int) (σ_j147 : St), f_X1_right_j147 (a0) (x3) (x4) (b14) (b15) (v8_1) v9_j147 t0_j147 t1_j147 t2_j147 σ_j147 = some z2 → V Γ σ_j147 0 0 147 [(0, .ref (a0)), (3, iv (x3)), (4, iv (x4)), (5, .ref (b14)), (6, .ref (b15)), (8, iv (v8_1)), (9, iv (v9_j147))] [iv (t0_j147), iv (t1_j147), iv (t2_j147)] := by
                    intro v9_j147 t0_j147 t1_j147 t2_j147 σ_j147 h
                    unfold f_X1_right_j147 at h
                    refine r_icmp_ne (tgt := 154) X dX1_right_147 (by decide) h (fun c22 h => ?_) (fun c22 h => ?_)
                    · refine r_iconst X dX1_right_150 ?_
                      refine r_goto (tgt := 155) X dX1_right_151 (by decide) ?_
                      refine r_iadd X dX1_right_155 ?_
                      refine r_istore X dX1_right_156 (hL 7 (by decide)) (lv' := [(7, iv ((t2_j147 + 1))), (0, .ref (a0)), (3, iv (x3)), (4, iv (x4)), (5, .ref (b14)), (6, .ref (b15)), (8, iv (v8_1)), (9, iv (v9_j147))]) rfl ?_
                      refine r_iinc X 7 dX1_right_158 rfl (hL 9 (by decide)) (lv' := [(9, iv ((v9_j147 + 1))), (7, iv ((t2_j147 + 1))), (0, .ref (a0)), (3, iv (x3)), (4, iv (x4)), (5, .ref (b14)), (6, .ref (b15)), (8, iv (v8_1))]) rfl ?_
                      refine r_goto (tgt := 85) X dX1_right_161 (by decide) ?_
                      exact V.sub [2, 3, 4, 5, 6, 1, 7, 0] rfl (ihb2 _ (Option.some.inj h).symm)
                    · refine r_iconst X dX1_right_154 ?_
                      refine r_iadd X dX1_right_155 ?_
                      refine r_istore X dX1_right_156 (hL 7 (by decide)) (lv' := [(7, iv ((t2_j147 + 0))), (0, .ref (a0)), (3, iv (x3)), (4, iv (x4)), (5, .ref (b14)), (6, .ref (b15)), (8, iv (v8_1)), (9, iv (v9_j147))]) rfl ?_
                      refine r_iinc X 7 dX1_right_158 rfl (hL 9 (by decide)) (lv' := [(9, iv ((v9_j147 + 1))), (7, iv ((t2_j147 + 0))), (0, .ref (a0)), (3, iv (x3)), (4, iv (x4)), (5, .ref (b14)), (6, .ref (b15)), (8, iv (v8_1))]) rfl ?_
                      refine r_goto (tgt := 85) X dX1_right_161 (by decide) ?_
                      exact V.sub [2, 3, 4, 5, 6, 1, 7, 0] rfl (ihb2 _ (Option.some.inj h).symm)
                  have J137 : ∀ (v9_j137 : Int) (t0_j137 : Int) (t1_j137 : Int) (σ_j137 : St), f_X1_right_j137 (a0) (x3) (x4) (b14) (b15) (v8_1) v9_j137 t0_j137 t1_j137 σ_j137 = some z2 → V Γ σ_j137 0 0 137 [(0, .ref (a0)), (3, iv (x3)), (4, iv (x4)), (5, .ref (b14)), (6, .ref (b15)), (8, iv (v8_1)), (9, iv (v9_j137))] [iv (t0_j137), iv (t1_j137)] := by
                    intro v9_j137 t0_j137 t1_j137 σ_j137 h
                    unfold f_X1_right_j137 at h
                    refine r_iload X 2 dX1_right_137 rfl ?_
                    refine r_if_ne (tgt := 146) X dX1_right_139 (by decide) h (fun c23 h => ?_) (fun c23 h => ?_)
                    · refine r_iconst X dX1_right_142 ?_
                      refine r_goto (tgt := 147) X dX1_right_143 (by decide) ?_
                      exact V.sub [0, 1, 2, 3, 4, 5, 6] rfl (J147 (v9_j137) (1) (t0_j137) (t1_j137) (σ_j137) h)
                    · refine r_iconst X dX1_right_146 ?_
                      exact V.sub [0, 1, 2, 3, 4, 5, 6] rfl (J147 (v9_j137) (0) (t0_j137) (t1_j137) (σ_j137) h)
                  refine r_iload X 7 dX1_right_85 rfl ?_
                  refine r_bipush X dX1_right_87 (by decide) ?_
                  refine r_icmp_ge (tgt := 164) X dX1_right_89 (by decide) h (fun c24 h => ?_) (fun c24 h => ?_)
                  · refine r_iload X 5 dX1_right_92 rfl ?_
                    refine r_aload X 4 dX1_right_94 rfl ?_
                    refine r_iload_n X 1 dX1_right_96 rfl rfl ?_
                    refine r_iload X 6 dX1_right_97 rfl ?_
                    refine r_iload X 7 dX1_right_99 rfl ?_
                    obtain ⟨ho26, h⟩ := cO_some h
                    obtain ⟨r27, h25, h⟩ := bd_some h
                    refine r_cV (Wd := 1) X (fun l D sz => w_X2_has l D sz h25) ho26.1 rfl q793 q794 q792 q105 q795 hy_X2_has rfl dX1_right_101 rfl rfl (Nat.le_of_ble_eq_true rfl) ⟨Nat.le_of_ble_eq_true rfl, Nat.le_of_ble_eq_true rfl⟩ ⟨Nat.le_of_ble_eq_true rfl, Nat.le_of_ble_eq_true rfl⟩ ?_
                    refine r_if_eq (tgt := 154) X dX1_right_104 (by decide) h (fun c28 h => ?_) (fun c28 h => ?_)
                    · refine r_iconst X dX1_right_154 ?_
                      refine r_iadd X dX1_right_155 ?_
                      refine r_istore X dX1_right_156 (hL 7 (by decide)) (lv' := [(7, iv ((v7_2 + 0))), (0, .ref (a0)), (3, iv (x3)), (4, iv (x4)), (5, .ref (b14)), (6, .ref (b15)), (8, iv (v8_1)), (9, iv (v9_2))]) rfl ?_
                      refine r_iinc X 7 dX1_right_158 rfl (hL 9 (by decide)) (lv' := [(9, iv ((v9_2 + 1))), (7, iv ((v7_2 + 0))), (0, .ref (a0)), (3, iv (x3)), (4, iv (x4)), (5, .ref (b14)), (6, .ref (b15)), (8, iv (v8_1))]) rfl ?_
                      refine r_goto (tgt := 85) X dX1_right_161 (by decide) ?_
                      exact V.sub [2, 3, 4, 5, 6, 1, 7, 0] rfl (ihb2 _ (Option.some.inj h).symm)
                    · refine r_aload X 3 dX1_right_107 rfl ?_
                      refine r_aload X 4 dX1_right_109 rfl ?_
                      refine r_iload_n X 1 dX1_right_111 rfl rfl ?_
                      refine r_iload X 6 dX1_right_112 rfl ?_
                      refine r_iload X 7 dX1_right_114 rfl ?_
                      obtain ⟨r30, σ31, h29, h⟩ := bd2_some h
                      refine r_cS (Wd := 1) X (fun l D sz => w_X1_answerOf l D sz h29) q897 q896 q104 q898 hy_X1_answerOf rfl dX1_right_116 rfl rfl (Nat.le_of_ble_eq_true rfl) ⟨Nat.le_of_ble_eq_true rfl, Nat.le_of_ble_eq_true rfl⟩ ⟨Nat.le_of_ble_eq_true rfl, Nat.le_of_ble_eq_true rfl⟩ ?_
                      refine r_aload X 4 dX1_right_119 rfl ?_
                      refine r_iload_n X 1 dX1_right_121 rfl rfl ?_
                      refine r_iload X 6 dX1_right_122 rfl ?_
                      refine r_iload X 7 dX1_right_124 rfl ?_
                      obtain ⟨ho33, h⟩ := cO_some h
                      obtain ⟨r34, h32, h⟩ := bd_some h
                      refine r_cV (Wd := 2) X (fun l D sz => w_X2_week l D sz h32) ho33.1 rfl q839 q840 q899 q105 q841 hy_X2_week rfl dX1_right_126 rfl rfl (Nat.le_of_ble_eq_true rfl) ⟨Nat.le_of_ble_eq_true rfl, Nat.le_of_ble_eq_true rfl⟩ ⟨Nat.le_of_ble_eq_true rfl, Nat.le_of_ble_eq_true rfl⟩ ?_
                      refine r_icmp_ne (tgt := 136) X dX1_right_129 (by decide) h (fun c35 h => ?_) (fun c35 h => ?_)
                      · refine r_iconst X dX1_right_132 ?_
                        refine r_goto (tgt := 137) X dX1_right_133 (by decide) ?_
                        exact V.sub [0, 1, 2, 3, 4, 6, 7] rfl (J137 (v9_2) (1) (v7_2) (σ31) h)
                      · refine r_iconst X dX1_right_136 ?_
                        exact V.sub [0, 1, 2, 3, 4, 6, 7] rfl (J137 (v9_2) (0) (v7_2) (σ31) h)
                  · have h := ex_some h ihe2
                    refine r_iinc X 6 dX1_right_164 rfl (hL 8 (by decide)) (lv' := [(8, iv ((v8_1 + 1))), (0, .ref (a0)), (3, iv (x3)), (4, iv (x4)), (5, .ref (b14)), (6, .ref (b15)), (7, iv (v7_2)), (9, iv (v9_2))]) rfl ?_
                    refine r_goto (tgt := 58) X dX1_right_167 (by decide) ?_
                    exact V.sub [1, 2, 3, 4, 5, 6, 0] rfl (ihb1 _ (Option.some.inj h).symm)
                exact V.sub [1, 2, 3, 4, 5, 6, 7, 0] rfl (L85 (v7_1, 1, σ20) h)
            · have h := ex_some h ihe1
              refine r_iload X 5 dX1_right_170 rfl ?_
              cases h
              exact r_iret X hr dX1_right_172
          exact V.sub [4, 7, 8, 3, 2, 1, 0] rfl (L58 (0, 1, σ) h)
theorem hy_X1_lackingMonths : yX1_lackingMonths.cls ≠ "java/lang/invoke/MethodHandle" ∧ yX1_lackingMonths.cls ≠ "java/lang/invoke/VarHandle" ∧ (parseMethodDescriptor yX1_lackingMonths.desc).map (fun d => d.parameters.length) = some 1 := by decide +kernel
set_option maxHeartbeats 4000000 in
theorem w_X1_lackingMonths (l : Launch) (D : DD) (sz : Nat) {σ : St} {p0 : Nat} {w : Int} (h : f_X1_lackingMonths σ p0 = some w) : Mt l yX1_lackingMonths cX1_lackingMonths 3 (some FieldType.int) ({ frames := 0, cells := 0, slots := 0, locals := 0 } : Room) D sz σ [.ref (p0)] (.returned (some (iv w))) (σ) 0 0 := by
  refine Mt.of (by decide +kernel) (Nat.le_of_ble_eq_true rfl) ?_
  intro Γ X hr hnl hini hnoh
  have X : Cx Γ cX1_lackingMonths "DayBoy" _ := X
  have hL : ∀ i, i < 3 → i < nLc Γ := fun i q => by rw [hnl]; exact q
  show V Γ σ 0 0 0 [(0, .ref (p0))] []
  unfold f_X1_lackingMonths at h
  refine r_iconst X dX1_lackingMonths_0 ?_
  refine r_istore_n X dX1_lackingMonths_1 rfl (hL 1 (by decide)) (lv' := [(1, iv (0)), (0, .ref (p0))]) rfl ?_
  refine r_iconst X dX1_lackingMonths_2 ?_
  refine r_istore_n X dX1_lackingMonths_3 rfl (hL 2 (by decide)) (lv' := [(2, iv (1)), (1, iv (0)), (0, .ref (p0))]) rfl ?_
  have L4 : ∀ s : Int × Int, lp (fun s => f_X1_lackingMonths_b4 (σ) (p0) s.1 s.2) s = some w → V Γ (σ) 0 0 4 [(0, .ref (p0)), (1, iv (s.1)), (2, iv (s.2))] [] := by
    refine lp_rule (P := fun s : Int × Int => V Γ (σ) 0 0 4 [(0, .ref (p0)), (1, iv (s.1)), (2, iv (s.2))] []) ?_
    intro s z1 h ihb1 ihe1
    obtain ⟨v1_1, v2_1⟩ := s
    have h : f_X1_lackingMonths_b4 (σ) (p0) v1_1 v2_1 = some z1 := h
    unfold f_X1_lackingMonths_b4 at h
    show V Γ σ 0 0 4 [(0, .ref (p0)), (1, iv (v1_1)), (2, iv (v2_1))] []
    refine r_iload_n X 2 dX1_lackingMonths_4 rfl rfl ?_
    refine r_bipush X dX1_lackingMonths_5 (by decide) ?_
    refine r_icmp_ge (tgt := 41) X dX1_lackingMonths_7 (by decide) h (fun c1 h => ?_) (fun c1 h => ?_)
    · refine r_iload_n X 1 dX1_lackingMonths_10 rfl rfl ?_
      refine r_aload_n X 0 dX1_lackingMonths_11 rfl rfl ?_
      obtain ⟨ho2, h⟩ := cO_some h
      refine r_getA (kf := 10) X ho2.1 rfl (by decide) (by decide) (Or.inr ⟨_, q231⟩) dX1_lackingMonths_12 ?_
      refine r_iload_n X 2 dX1_lackingMonths_15 rfl rfl ?_
      refine r_lald X ho2.1 (ho2.2 10 (by decide)) rfl rfl rfl (by decide) dX1_lackingMonths_16 h (fun h => ?_)
      refine r_ldc2 (z := 1000000000000) X q1171 dX1_lackingMonths_17 rfl ?_
      refine r_lcmp_lt (tgt := 32) X dX1_lackingMonths_20 dX1_lackingMonths_21 (by decide) h (fun c3 h => ?_) (fun c3 h => ?_)
      · refine r_iconst X dX1_lackingMonths_32 ?_
        refine r_ior X dX1_lackingMonths_33 ?_
        refine r_istore_n X dX1_lackingMonths_34 rfl (hL 1 (by decide)) (lv' := [(1, iv ((bOr (v1_1) (0)))), (0, .ref (p0)), (2, iv (v2_1))]) rfl ?_
        refine r_iinc X 2 dX1_lackingMonths_35 rfl (hL 2 (by decide)) (lv' := [(2, iv ((v2_1 + 1))), (1, iv ((bOr (v1_1) (0)))), (0, .ref (p0))]) rfl ?_
        refine r_goto (tgt := 4) X dX1_lackingMonths_38 (by decide) ?_
        exact V.sub [2, 1, 0] rfl (ihb1 _ (Option.some.inj h).symm)
      · refine r_iconst X dX1_lackingMonths_24 ?_
        refine r_iload_n X 2 dX1_lackingMonths_25 rfl rfl ?_
        refine r_iconst X dX1_lackingMonths_26 ?_
        refine r_isub X dX1_lackingMonths_27 ?_
        refine r_ishl X dX1_lackingMonths_28 ?_
        refine r_goto (tgt := 33) X dX1_lackingMonths_29 (by decide) ?_
        refine r_ior X dX1_lackingMonths_33 ?_
        refine r_istore_n X dX1_lackingMonths_34 rfl (hL 1 (by decide)) (lv' := [(1, iv ((bOr (v1_1) ((bShl (1) ((v2_1 - 1))))))), (0, .ref (p0)), (2, iv (v2_1))]) rfl ?_
        refine r_iinc X 2 dX1_lackingMonths_35 rfl (hL 2 (by decide)) (lv' := [(2, iv ((v2_1 + 1))), (1, iv ((bOr (v1_1) ((bShl (1) ((v2_1 - 1))))))), (0, .ref (p0))]) rfl ?_
        refine r_goto (tgt := 4) X dX1_lackingMonths_38 (by decide) ?_
        exact V.sub [2, 1, 0] rfl (ihb1 _ (Option.some.inj h).symm)
    · have h := ex_some h ihe1
      refine r_iload_n X 1 dX1_lackingMonths_41 rfl rfl ?_
      cases h
      exact r_iret X hr dX1_lackingMonths_42
  exact V.sub [2, 1, 0] rfl (L4 (0, 1) h)
