/-! walks (printed by gen.py) -/
set_option maxRecDepth 100000
theorem hy_X6_lacks : yX6_lacks.cls ≠ "java/lang/invoke/MethodHandle" ∧ yX6_lacks.cls ≠ "java/lang/invoke/VarHandle" ∧ (parseMethodDescriptor yX6_lacks.desc).map (fun d => d.parameters.length) = some 4 := by decide +kernel
set_option maxHeartbeats 4000000 in
theorem w_X6_lacks (l : Launch) (D : DD) (sz : Nat) {σ : St} {a0 : Nat} {x1 : Int} {x2 : Int} {x3 : Int} {x4 : Int} {w : Int} (h : f_X6_lacks σ a0 x1 x2 x3 x4 = some w) : Mt l yX6_lacks cX6_lacks 7 (some FieldType.int) ({ frames := 2, cells := 0, slots := 0, locals := 34 } : Room) D sz σ [.ref a0, iv (x1), iv (x2), iv (x3), iv (x4)] (.returned (some (iv w))) (σ) 0 0 := by
  refine Mt.of (by decide +kernel) (Nat.le_of_ble_eq_true rfl) ?_
  intro Γ X hr hnl hini hnoh
  have X : Cx Γ cX6_lacks "DayBoyModel" _ := X
  have hL : ∀ i, i < 7 → i < nLc Γ := fun i q => by rw [hnl]; exact q
  show V Γ σ 0 0 0 [(0, .ref (a0)), (1, iv (x1)), (2, iv (x2)), (3, iv (x3)), (4, iv (x4))] []
  unfold f_X6_lacks at h
  obtain ⟨ho0, h⟩ := cO_some h
  refine r_aload_n X 0 dX6_lacks_0 rfl rfl ?_
  refine r_iload_n X 1 dX6_lacks_1 rfl rfl ?_
  obtain ⟨r2, h1, h⟩ := bd_some h
  refine r_cV (Wd := 0) X (fun l D sz => w_X6_isHead l D sz h1) ho0.1 rfl q1662 qs79 q1660 q109 q1663 hy_X6_isHead rfl dX6_lacks_2 rfl rfl (Nat.le_of_ble_eq_true rfl) ⟨Nat.le_of_ble_eq_true rfl, Nat.le_of_ble_eq_true rfl⟩ ⟨Nat.le_of_ble_eq_true rfl, Nat.le_of_ble_eq_true rfl⟩ ?_
  refine r_if_eq (tgt := 18) X dX6_lacks_5 (by decide) h (fun c3 h => ?_) (fun c3 h => ?_)
  · refine r_iconst X dX6_lacks_18 ?_
    cases h
    exact r_iret X hr dX6_lacks_19
  · refine r_iload X 4 dX6_lacks_8 rfl ?_
    refine r_iconst X dX6_lacks_10 ?_
    refine r_iconst X dX6_lacks_11 ?_
    obtain ⟨r5, h4, h⟩ := bd_some h
    refine r_cS (Wd := 0) X (fun l D sz => w_X6_in l D sz h4) q1502 q1501 q109 q1503 hy_X6_in rfl dX6_lacks_12 rfl rfl (Nat.le_of_ble_eq_true rfl) ⟨Nat.le_of_ble_eq_true rfl, Nat.le_of_ble_eq_true rfl⟩ ⟨Nat.le_of_ble_eq_true rfl, Nat.le_of_ble_eq_true rfl⟩ ?_
    refine r_if_ne (tgt := 20) X dX6_lacks_15 (by decide) h (fun c6 h => ?_) (fun c6 h => ?_)
    · refine r_iconst X dX6_lacks_18 ?_
      cases h
      exact r_iret X hr dX6_lacks_19
    · refine r_iload X 4 dX6_lacks_20 rfl ?_
      refine r_iconst X dX6_lacks_22 ?_
      refine r_icmp_ne (tgt := 82) X dX6_lacks_23 (by decide) h (fun c7 h => ?_) (fun c7 h => ?_)
      · refine r_iconst X dX6_lacks_26 ?_
        refine r_istore X dX6_lacks_27 (hL 5 (by decide)) (lv' := [(5, iv (0)), (0, .ref (a0)), (1, iv (x1)), (2, iv (x2)), (3, iv (x3)), (4, iv (x4))]) rfl ?_
        refine r_iconst X dX6_lacks_29 ?_
        refine r_istore X dX6_lacks_30 (hL 6 (by decide)) (lv' := [(6, iv (1)), (5, iv (0)), (0, .ref (a0)), (1, iv (x1)), (2, iv (x2)), (3, iv (x3)), (4, iv (x4))]) rfl ?_
        have L32 : ∀ s : Int × Int, lp (fun s => f_X6_lacks_b32 (σ) (a0) (x1) s.1 s.2) s = some w → V Γ (σ) 0 0 32 [(0, .ref (a0)), (1, iv (x1)), (5, iv (s.1)), (6, iv (s.2))] [] := by
          refine lp_rule (P := fun s : Int × Int => V Γ (σ) 0 0 32 [(0, .ref (a0)), (1, iv (x1)), (5, iv (s.1)), (6, iv (s.2))] []) ?_
          intro s z1 h ihb1 ihe1
          obtain ⟨v5_1, v6_1⟩ := s
          have h : f_X6_lacks_b32 (σ) (a0) (x1) v5_1 v6_1 = some z1 := h
          unfold f_X6_lacks_b32 at h
          show V Γ σ 0 0 32 [(0, .ref (a0)), (1, iv (x1)), (5, iv (v5_1)), (6, iv (v6_1))] []
          refine r_iload X 3 dX6_lacks_32 rfl ?_
          refine r_bipush X dX6_lacks_34 (by decide) ?_
          refine r_icmp_gt (tgt := 79) X dX6_lacks_36 (by decide) h (fun c8 h => ?_) (fun c8 h => ?_)
          · have h := ex_some h ihe1
            refine r_iload X 2 dX6_lacks_79 rfl ?_
            cases h
            exact r_iret X hr dX6_lacks_81
          · refine r_iload X 2 dX6_lacks_39 rfl ?_
            refine r_aload_n X 0 dX6_lacks_41 rfl rfl ?_
            refine r_getA (kf := 31) X ho0.1 rfl (by decide) (by decide) (Or.inl q1272) dX6_lacks_42 ?_
            refine r_bipush X dX6_lacks_45 (by decide) ?_
            refine r_iload_n X 1 dX6_lacks_47 rfl rfl ?_
            refine r_imul X dX6_lacks_48 ?_
            refine r_iload X 3 dX6_lacks_49 rfl ?_
            refine r_iadd X dX6_lacks_51 ?_
            refine r_lald X ho0.1 (ho0.2 31 (by decide)) rfl rfl rfl (by decide) dX6_lacks_52 h (fun h => ?_)
            refine r_ldc2 (z := 1152921504606846976) X q1589 dX6_lacks_53 rfl ?_
            refine r_lcmp_lt (tgt := 69) X dX6_lacks_56 dX6_lacks_57 (by decide) h (fun c9 h => ?_) (fun c9 h => ?_)
            · refine r_iconst X dX6_lacks_69 ?_
              refine r_ior X dX6_lacks_70 ?_
              refine r_istore X dX6_lacks_71 (hL 5 (by decide)) (lv' := [(5, iv ((bOr (v5_1) (0)))), (0, .ref (a0)), (1, iv (x1)), (6, iv (v6_1))]) rfl ?_
              refine r_iinc X 3 dX6_lacks_73 rfl (hL 6 (by decide)) (lv' := [(6, iv ((v6_1 + 1))), (5, iv ((bOr (v5_1) (0)))), (0, .ref (a0)), (1, iv (x1))]) rfl ?_
              refine r_goto (tgt := 32) X dX6_lacks_76 (by decide) ?_
              exact V.sub [2, 3, 1, 0] rfl (ihb1 _ (Option.some.inj h).symm)
            · refine r_iconst X dX6_lacks_60 ?_
              refine r_iload X 3 dX6_lacks_61 rfl ?_
              refine r_iconst X dX6_lacks_63 ?_
              refine r_isub X dX6_lacks_64 ?_
              refine r_ishl X dX6_lacks_65 ?_
              refine r_goto (tgt := 70) X dX6_lacks_66 (by decide) ?_
              refine r_ior X dX6_lacks_70 ?_
              refine r_istore X dX6_lacks_71 (hL 5 (by decide)) (lv' := [(5, iv ((bOr (v5_1) ((bShl (1) ((v6_1 - 1))))))), (0, .ref (a0)), (1, iv (x1)), (6, iv (v6_1))]) rfl ?_
              refine r_iinc X 3 dX6_lacks_73 rfl (hL 6 (by decide)) (lv' := [(6, iv ((v6_1 + 1))), (5, iv ((bOr (v5_1) ((bShl (1) ((v6_1 - 1))))))), (0, .ref (a0)), (1, iv (x1))]) rfl ?_
              refine r_goto (tgt := 32) X dX6_lacks_76 (by decide) ?_
              exact V.sub [2, 3, 1, 0] rfl (ihb1 _ (Option.some.inj h).symm)
        exact V.sub [2, 3, 1, 0] rfl (L32 (0, 1) h)
      · refine r_aload_n X 0 dX6_lacks_82 rfl rfl ?_
        refine r_iload_n X 2 dX6_lacks_83 rfl rfl ?_
        refine r_iload_n X 3 dX6_lacks_84 rfl rfl ?_
        obtain ⟨r11, h10, h⟩ := bd_some h
        refine r_cV (Wd := 0) X (fun l D sz => w_X6_areYears l D sz h10) ho0.1 rfl q1866 qs98 q1864 q109 q1867 hy_X6_areYears rfl dX6_lacks_85 rfl rfl (Nat.le_of_ble_eq_true rfl) ⟨Nat.le_of_ble_eq_true rfl, Nat.le_of_ble_eq_true rfl⟩ ⟨Nat.le_of_ble_eq_true rfl, Nat.le_of_ble_eq_true rfl⟩ ?_
        refine r_if_eq (tgt := 103) X dX6_lacks_88 (by decide) h (fun c12 h => ?_) (fun c12 h => ?_)
        · refine r_iconst X dX6_lacks_103 ?_
          cases h
          exact r_iret X hr dX6_lacks_104
        · refine r_aload_n X 0 dX6_lacks_91 rfl rfl ?_
          refine r_iload_n X 1 dX6_lacks_92 rfl rfl ?_
          refine r_iload_n X 2 dX6_lacks_93 rfl rfl ?_
          refine r_iload_n X 3 dX6_lacks_94 rfl rfl ?_
          refine r_iload X 4 dX6_lacks_95 rfl ?_
          obtain ⟨r14, h13, h⟩ := bd_some h
          refine r_cV (Wd := 0) X (fun l D sz => w_X6_yearsLack l D sz h13) ho0.1 rfl q1886 qs101 q1884 q109 q1887 hy_X6_yearsLack rfl dX6_lacks_97 rfl rfl (Nat.le_of_ble_eq_true rfl) ⟨Nat.le_of_ble_eq_true rfl, Nat.le_of_ble_eq_true rfl⟩ ⟨Nat.le_of_ble_eq_true rfl, Nat.le_of_ble_eq_true rfl⟩ ?_
          refine r_goto (tgt := 104) X dX6_lacks_100 (by decide) ?_
          cases h
          exact r_iret X hr dX6_lacks_104
theorem hy_X6_spare : yX6_spare.cls ≠ "java/lang/invoke/MethodHandle" ∧ yX6_spare.cls ≠ "java/lang/invoke/VarHandle" ∧ (parseMethodDescriptor yX6_spare.desc).map (fun d => d.parameters.length) = some 2 := by decide +kernel
set_option maxHeartbeats 4000000 in
theorem w_X6_spare (l : Launch) (D : DD) (sz : Nat) {σ : St} {a0 : Nat} {x1 : Int} {x2 : Int} {w : Int × St} (h : f_X6_spare σ a0 x1 x2 = some w) : Mt l yX6_spare cX6_spare 5 (some FieldType.int) ({ frames := 8, cells := 0, slots := 0, locals := 135 } : Room) D sz σ [.ref a0, iv (x1), iv (x2)] (.returned (some (iv w.1))) (w.2) 0 0 := by
  refine Mt.of (by decide +kernel) (Nat.le_of_ble_eq_true rfl) ?_
  intro Γ X hr hnl hini hnoh
  have X : Cx Γ cX6_spare "DayBoyModel" _ := X
  have hL : ∀ i, i < 5 → i < nLc Γ := fun i q => by rw [hnl]; exact q
  show V Γ σ 0 0 0 [(0, .ref (a0)), (1, iv (x1)), (2, iv (x2))] []
  unfold f_X6_spare at h
  obtain ⟨ho0, h⟩ := cO_some h
  refine r_aload_n X 0 dX6_spare_0 rfl rfl ?_
  refine r_iload_n X 1 dX6_spare_1 rfl rfl ?_
  obtain ⟨r2, h1, h⟩ := bd_some h
  refine r_cV (Wd := 0) X (fun l D sz => w_X6_isSlack l D sz h1) ho0.1 rfl q1709 qs86 q1707 q109 q1710 hy_X6_isSlack rfl dX6_spare_2 rfl rfl (Nat.le_of_ble_eq_true rfl) ⟨Nat.le_of_ble_eq_true rfl, Nat.le_of_ble_eq_true rfl⟩ ⟨Nat.le_of_ble_eq_true rfl, Nat.le_of_ble_eq_true rfl⟩ ?_
  refine r_if_eq (tgt := 18) X dX6_spare_5 (by decide) h (fun c3 h => ?_) (fun c3 h => ?_)
  · refine r_iconst X dX6_spare_18 ?_
    cases h
    exact r_iret X hr dX6_spare_19
  · refine r_iload_n X 2 dX6_spare_8 rfl rfl ?_
    refine r_iconst X dX6_spare_9 ?_
    refine r_bipush X dX6_spare_10 (by decide) ?_
    obtain ⟨r5, h4, h⟩ := bd_some h
    refine r_cS (Wd := 0) X (fun l D sz => w_X6_in l D sz h4) q1502 q1501 q109 q1503 hy_X6_in rfl dX6_spare_12 rfl rfl (Nat.le_of_ble_eq_true rfl) ⟨Nat.le_of_ble_eq_true rfl, Nat.le_of_ble_eq_true rfl⟩ ⟨Nat.le_of_ble_eq_true rfl, Nat.le_of_ble_eq_true rfl⟩ ?_
    refine r_if_ne (tgt := 20) X dX6_spare_15 (by decide) h (fun c6 h => ?_) (fun c6 h => ?_)
    · refine r_iconst X dX6_spare_18 ?_
      cases h
      exact r_iret X hr dX6_spare_19
    · refine r_iconst X dX6_spare_20 ?_
      refine r_istore_n X dX6_spare_21 rfl (hL 3 (by decide)) (lv' := [(3, iv (0)), (0, .ref (a0)), (1, iv (x1)), (2, iv (x2))]) rfl ?_
      refine r_iconst X dX6_spare_22 ?_
      refine r_istore X dX6_spare_23 (hL 4 (by decide)) (lv' := [(4, iv (0)), (3, iv (0)), (0, .ref (a0)), (1, iv (x1)), (2, iv (x2))]) rfl ?_
      have L25 : ∀ s : Int × Int × St, lp (fun s => f_X6_spare_b25 (a0) (x1) (x2) s.1 s.2.1 s.2.2) s = some w → V Γ (s.2.2) 0 0 25 [(0, .ref (a0)), (1, iv (x1)), (2, iv (x2)), (3, iv (s.1)), (4, iv (s.2.1))] [] := by
        refine lp_rule (P := fun s : Int × Int × St => V Γ (s.2.2) 0 0 25 [(0, .ref (a0)), (1, iv (x1)), (2, iv (x2)), (3, iv (s.1)), (4, iv (s.2.1))] []) ?_
        intro s z1 h ihb1 ihe1
        obtain ⟨v3_1, v4_1, σ_1⟩ := s
        have h : f_X6_spare_b25 (a0) (x1) (x2) v3_1 v4_1 σ_1 = some z1 := h
        unfold f_X6_spare_b25 at h
        show V Γ σ_1 0 0 25 [(0, .ref (a0)), (1, iv (x1)), (2, iv (x2)), (3, iv (v3_1)), (4, iv (v4_1))] []
        refine r_iload X 4 dX6_spare_25 rfl ?_
        refine r_aload_n X 0 dX6_spare_27 rfl rfl ?_
        obtain ⟨ho7, h⟩ := cO_some h
        refine r_getI (kf := 28) X ho7.1 rfl (by decide) rfl (Or.inl q1269) dX6_spare_28 ?_
        refine r_icmp_ge (tgt := 67) X dX6_spare_31 (by decide) h (fun c8 h => ?_) (fun c8 h => ?_)
        · refine r_iload_n X 3 dX6_spare_34 rfl rfl ?_
          refine r_aload_n X 0 dX6_spare_35 rfl rfl ?_
          refine r_getI (kf := 49) X ho7.1 rfl (by decide) rfl (Or.inl q1290) dX6_spare_36 ?_
          refine r_aload_n X 0 dX6_spare_39 rfl rfl ?_
          refine r_iload X 4 dX6_spare_40 rfl ?_
          refine r_iload_n X 1 dX6_spare_42 rfl rfl ?_
          obtain ⟨r10, σ11, h9, h⟩ := bd2_some h
          refine r_cV (Wd := 2) X (fun l D sz => w_X6_soMany l D sz h9) ho7.1 rfl q1713 qs87 q1711 q109 q1714 hy_X6_soMany rfl dX6_spare_43 rfl rfl (Nat.le_of_ble_eq_true rfl) ⟨Nat.le_of_ble_eq_true rfl, Nat.le_of_ble_eq_true rfl⟩ ⟨Nat.le_of_ble_eq_true rfl, Nat.le_of_ble_eq_true rfl⟩ ?_
          refine r_isub X dX6_spare_46 ?_
          refine r_iload_n X 2 dX6_spare_47 rfl rfl ?_
          refine r_icmp_gt (tgt := 58) X dX6_spare_48 (by decide) h (fun c12 h => ?_) (fun c12 h => ?_)
          · refine r_iconst X dX6_spare_58 ?_
            refine r_ior X dX6_spare_59 ?_
            refine r_istore_n X dX6_spare_60 rfl (hL 3 (by decide)) (lv' := [(3, iv ((bOr (v3_1) (0)))), (0, .ref (a0)), (1, iv (x1)), (2, iv (x2)), (4, iv (v4_1))]) rfl ?_
            refine r_iinc X 4 dX6_spare_61 rfl (hL 4 (by decide)) (lv' := [(4, iv ((v4_1 + 1))), (3, iv ((bOr (v3_1) (0)))), (0, .ref (a0)), (1, iv (x1)), (2, iv (x2))]) rfl ?_
            refine r_goto (tgt := 25) X dX6_spare_64 (by decide) ?_
            exact V.sub [2, 3, 4, 1, 0] rfl (ihb1 _ (Option.some.inj h).symm)
          · refine r_iconst X dX6_spare_51 ?_
            refine r_iload X 4 dX6_spare_52 rfl ?_
            refine r_ishl X dX6_spare_54 ?_
            refine r_goto (tgt := 59) X dX6_spare_55 (by decide) ?_
            refine r_ior X dX6_spare_59 ?_
            refine r_istore_n X dX6_spare_60 rfl (hL 3 (by decide)) (lv' := [(3, iv ((bOr (v3_1) ((bShl (1) (v4_1)))))), (0, .ref (a0)), (1, iv (x1)), (2, iv (x2)), (4, iv (v4_1))]) rfl ?_
            refine r_iinc X 4 dX6_spare_61 rfl (hL 4 (by decide)) (lv' := [(4, iv ((v4_1 + 1))), (3, iv ((bOr (v3_1) ((bShl (1) (v4_1)))))), (0, .ref (a0)), (1, iv (x1)), (2, iv (x2))]) rfl ?_
            refine r_goto (tgt := 25) X dX6_spare_64 (by decide) ?_
            exact V.sub [2, 3, 4, 1, 0] rfl (ihb1 _ (Option.some.inj h).symm)
        · have h := ex_some h ihe1
          refine r_iload_n X 3 dX6_spare_67 rfl rfl ?_
          cases h
          exact r_iret X hr dX6_spare_68
      exact V.sub [2, 3, 4, 1, 0] rfl (L25 (0, 0, σ) h)
theorem hy_X6_unlike : yX6_unlike.cls ≠ "java/lang/invoke/MethodHandle" ∧ yX6_unlike.cls ≠ "java/lang/invoke/VarHandle" ∧ (parseMethodDescriptor yX6_unlike.desc).map (fun d => d.parameters.length) = some 3 := by decide +kernel
set_option maxHeartbeats 4000000 in
theorem w_X6_unlike (l : Launch) (D : DD) (sz : Nat) {σ : St} {a0 : Nat} {x1 : Int} {x2 : Int} {x3 : Int} {w : Int} (h : f_X6_unlike σ a0 x1 x2 x3 = some w) : Mt l yX6_unlike cX6_unlike 5 (some FieldType.int) ({ frames := 4, cells := 0, slots := 0, locals := 69 } : Room) D sz σ [.ref a0, iv (x1), iv (x2), iv (x3)] (.returned (some (iv w))) (σ) 0 0 := by
  refine Mt.of (by decide +kernel) (Nat.le_of_ble_eq_true rfl) ?_
  intro Γ X hr hnl hini hnoh
  have X : Cx Γ cX6_unlike "DayBoyModel" _ := X
  have hL : ∀ i, i < 5 → i < nLc Γ := fun i q => by rw [hnl]; exact q
  show V Γ σ 0 0 0 [(0, .ref (a0)), (1, iv (x1)), (2, iv (x2)), (3, iv (x3))] []
  unfold f_X6_unlike at h
  obtain ⟨ho0, h⟩ := cO_some h
  refine r_aload_n X 0 dX6_unlike_0 rfl rfl ?_
  refine r_iload_n X 1 dX6_unlike_1 rfl rfl ?_
  obtain ⟨r2, h1, h⟩ := bd_some h
  refine r_cV (Wd := 0) X (fun l D sz => w_X6_isCalendar l D sz h1) ho0.1 rfl q1622 qs75 q1620 q109 q1623 hy_X6_isCalendar rfl dX6_unlike_2 rfl rfl (Nat.le_of_ble_eq_true rfl) ⟨Nat.le_of_ble_eq_true rfl, Nat.le_of_ble_eq_true rfl⟩ ⟨Nat.le_of_ble_eq_true rfl, Nat.le_of_ble_eq_true rfl⟩ ?_
  refine r_if_eq (tgt := 27) X dX6_unlike_5 (by decide) h (fun c3 h => ?_) (fun c3 h => ?_)
  · refine r_iconst X dX6_unlike_27 ?_
    cases h
    exact r_iret X hr dX6_unlike_28
  · refine r_aload_n X 0 dX6_unlike_8 rfl rfl ?_
    refine r_iload_n X 2 dX6_unlike_9 rfl rfl ?_
    obtain ⟨r5, h4, h⟩ := bd_some h
    refine r_cV (Wd := 0) X (fun l D sz => w_X6_isCalendar l D sz h4) ho0.1 rfl q1622 qs75 q1620 q109 q1623 hy_X6_isCalendar rfl dX6_unlike_10 rfl rfl (Nat.le_of_ble_eq_true rfl) ⟨Nat.le_of_ble_eq_true rfl, Nat.le_of_ble_eq_true rfl⟩ ⟨Nat.le_of_ble_eq_true rfl, Nat.le_of_ble_eq_true rfl⟩ ?_
    refine r_if_eq (tgt := 27) X dX6_unlike_13 (by decide) h (fun c6 h => ?_) (fun c6 h => ?_)
    · refine r_iconst X dX6_unlike_27 ?_
      cases h
      exact r_iret X hr dX6_unlike_28
    · refine r_iload_n X 3 dX6_unlike_16 rfl rfl ?_
      refine r_iconst X dX6_unlike_17 ?_
      refine r_ldcw (z := 4000000) X q1900 dX6_unlike_18 rfl ?_
      obtain ⟨r8, h7, h⟩ := bd_some h
      refine r_cS (Wd := 0) X (fun l D sz => w_X6_in l D sz h7) q1502 q1501 q109 q1503 hy_X6_in rfl dX6_unlike_21 rfl rfl (Nat.le_of_ble_eq_true rfl) ⟨Nat.le_of_ble_eq_true rfl, Nat.le_of_ble_eq_true rfl⟩ ⟨Nat.le_of_ble_eq_true rfl, Nat.le_of_ble_eq_true rfl⟩ ?_
      refine r_if_ne (tgt := 29) X dX6_unlike_24 (by decide) h (fun c9 h => ?_) (fun c9 h => ?_)
      · refine r_iconst X dX6_unlike_27 ?_
        cases h
        exact r_iret X hr dX6_unlike_28
      · refine r_iload_n X 3 dX6_unlike_29 rfl rfl ?_
        refine r_istore X dX6_unlike_30 (hL 4 (by decide)) (lv' := [(4, iv (x3)), (0, .ref (a0)), (1, iv (x1)), (2, iv (x2)), (3, iv (x3))]) rfl ?_
        have L32 : ∀ s : Int, lp (fun s => f_X6_unlike_b32 (σ) (a0) (x1) (x2) (x3) s) s = some w → V Γ (σ) 0 0 32 [(0, .ref (a0)), (1, iv (x1)), (2, iv (x2)), (3, iv (x3)), (4, iv (s))] [] := by
          refine lp_rule (P := fun s : Int => V Γ (σ) 0 0 32 [(0, .ref (a0)), (1, iv (x1)), (2, iv (x2)), (3, iv (x3)), (4, iv (s))] []) ?_
          intro s z1 h ihb1 ihe1
          obtain ⟨v4_1, es⟩ : ∃ q, q = s := ⟨s, rfl⟩
          subst es
          have h : f_X6_unlike_b32 (σ) (a0) (x1) (x2) (x3) v4_1 = some z1 := h
          unfold f_X6_unlike_b32 at h
          show V Γ σ 0 0 32 [(0, .ref (a0)), (1, iv (x1)), (2, iv (x2)), (3, iv (x3)), (4, iv (v4_1))] []
          refine r_iload X 4 dX6_unlike_32 rfl ?_
          refine r_iload_n X 3 dX6_unlike_34 rfl rfl ?_
          refine r_sipush X dX6_unlike_35 (by decide) ?_
          refine r_iadd X dX6_unlike_38 ?_
          refine r_icmp_ge (tgt := 68) X dX6_unlike_39 (by decide) h (fun c10 h => ?_) (fun c10 h => ?_)
          · refine r_aload_n X 0 dX6_unlike_42 rfl rfl ?_
            refine r_iload_n X 1 dX6_unlike_43 rfl rfl ?_
            refine r_iload X 4 dX6_unlike_44 rfl ?_
            obtain ⟨r12, h11, h⟩ := bd_some h
            refine r_cV (Wd := 0) X (fun l D sz => w_X6_dateOf l D sz h11) ho0.1 rfl q1634 qs77 q1632 q109 q1635 hy_X6_dateOf rfl dX6_unlike_46 rfl rfl (Nat.le_of_ble_eq_true rfl) ⟨Nat.le_of_ble_eq_true rfl, Nat.le_of_ble_eq_true rfl⟩ ⟨Nat.le_of_ble_eq_true rfl, Nat.le_of_ble_eq_true rfl⟩ ?_
            refine r_aload_n X 0 dX6_unlike_49 rfl rfl ?_
            refine r_iload_n X 2 dX6_unlike_50 rfl rfl ?_
            refine r_iload X 4 dX6_unlike_51 rfl ?_
            obtain ⟨r14, h13, h⟩ := bd_some h
            refine r_cV (Wd := 1) X (fun l D sz => w_X6_dateOf l D sz h13) ho0.1 rfl q1634 qs77 q1632 q109 q1635 hy_X6_dateOf rfl dX6_unlike_53 rfl rfl (Nat.le_of_ble_eq_true rfl) ⟨Nat.le_of_ble_eq_true rfl, Nat.le_of_ble_eq_true rfl⟩ ⟨Nat.le_of_ble_eq_true rfl, Nat.le_of_ble_eq_true rfl⟩ ?_
            refine r_icmp_eq (tgt := 62) X dX6_unlike_56 (by decide) h (fun c15 h => ?_) (fun c15 h => ?_)
            · refine r_iinc X 4 dX6_unlike_62 rfl (hL 4 (by decide)) (lv' := [(4, iv ((v4_1 + 1))), (0, .ref (a0)), (1, iv (x1)), (2, iv (x2)), (3, iv (x3))]) rfl ?_
              refine r_goto (tgt := 32) X dX6_unlike_65 (by decide) ?_
              exact V.sub [1, 2, 3, 4, 0] rfl (ihb1 _ (Option.some.inj h).symm)
            · have h := ex_some h ihe1
              refine r_iload X 4 dX6_unlike_59 rfl ?_
              cases h
              exact r_iret X hr dX6_unlike_61
          · have h := ex_some h ihe1
            refine r_iconst X dX6_unlike_68 ?_
            cases h
            exact r_iret X hr dX6_unlike_69
        exact V.sub [1, 2, 3, 4, 0] rfl (L32 (x3) h)
theorem hy_X6_rises : yX6_rises.cls ≠ "java/lang/invoke/MethodHandle" ∧ yX6_rises.cls ≠ "java/lang/invoke/VarHandle" ∧ (parseMethodDescriptor yX6_rises.desc).map (fun d => d.parameters.length) = some 4 := by decide +kernel
set_option maxHeartbeats 4000000 in
theorem w_X6_rises (l : Launch) (D : DD) (sz : Nat) {σ : St} {a0 : Nat} {x1 : Int} {x2 : Int} {x3 : Int} {x4 : Int} {w : Int} (h : f_X6_rises σ a0 x1 x2 x3 x4 = some w) : Mt l yX6_rises cX6_rises 8 (some FieldType.int) ({ frames := 2, cells := 0, slots := 0, locals := 28 } : Room) D sz σ [.ref a0, iv (x1), iv (x2), iv (x3), iv (x4)] (.returned (some (iv w))) (σ) 0 0 := by
  refine Mt.of (by decide +kernel) (Nat.le_of_ble_eq_true rfl) ?_
  intro Γ X hr hnl hini hnoh
  have X : Cx Γ cX6_rises "DayBoyModel" _ := X
  have hL : ∀ i, i < 8 → i < nLc Γ := fun i q => by rw [hnl]; exact q
  show V Γ σ 0 0 0 [(0, .ref (a0)), (1, iv (x1)), (2, iv (x2)), (3, iv (x3)), (4, iv (x4))] []
  unfold f_X6_rises at h
  obtain ⟨ho0, h⟩ := cO_some h
  refine r_aload_n X 0 dX6_rises_0 rfl rfl ?_
  refine r_iload_n X 1 dX6_rises_1 rfl rfl ?_
  obtain ⟨r2, h1, h⟩ := bd_some h
  refine r_cV (Wd := 0) X (fun l D sz => w_X6_isHead l D sz h1) ho0.1 rfl q1662 qs79 q1660 q109 q1663 hy_X6_isHead rfl dX6_rises_2 rfl rfl (Nat.le_of_ble_eq_true rfl) ⟨Nat.le_of_ble_eq_true rfl, Nat.le_of_ble_eq_true rfl⟩ ⟨Nat.le_of_ble_eq_true rfl, Nat.le_of_ble_eq_true rfl⟩ ?_
  refine r_if_eq (tgt := 26) X dX6_rises_5 (by decide) h (fun c3 h => ?_) (fun c3 h => ?_)
  · refine r_sipush X dX6_rises_26 (by decide) ?_
    cases h
    exact r_iret X hr dX6_rises_29
  · refine r_aload_n X 0 dX6_rises_8 rfl rfl ?_
    refine r_iload_n X 2 dX6_rises_9 rfl rfl ?_
    obtain ⟨r5, h4, h⟩ := bd_some h
    refine r_cV (Wd := 0) X (fun l D sz => w_X6_isHead l D sz h4) ho0.1 rfl q1662 qs79 q1660 q109 q1663 hy_X6_isHead rfl dX6_rises_10 rfl rfl (Nat.le_of_ble_eq_true rfl) ⟨Nat.le_of_ble_eq_true rfl, Nat.le_of_ble_eq_true rfl⟩ ⟨Nat.le_of_ble_eq_true rfl, Nat.le_of_ble_eq_true rfl⟩ ?_
    refine r_if_eq (tgt := 26) X dX6_rises_13 (by decide) h (fun c6 h => ?_) (fun c6 h => ?_)
    · refine r_sipush X dX6_rises_26 (by decide) ?_
      cases h
      exact r_iret X hr dX6_rises_29
    · refine r_aload_n X 0 dX6_rises_16 rfl rfl ?_
      refine r_iload_n X 3 dX6_rises_17 rfl rfl ?_
      refine r_iload X 4 dX6_rises_18 rfl ?_
      obtain ⟨r8, h7, h⟩ := bd_some h
      refine r_cV (Wd := 0) X (fun l D sz => w_X6_areYears l D sz h7) ho0.1 rfl q1866 qs98 q1864 q109 q1867 hy_X6_areYears rfl dX6_rises_20 rfl rfl (Nat.le_of_ble_eq_true rfl) ⟨Nat.le_of_ble_eq_true rfl, Nat.le_of_ble_eq_true rfl⟩ ⟨Nat.le_of_ble_eq_true rfl, Nat.le_of_ble_eq_true rfl⟩ ?_
      refine r_if_ne (tgt := 30) X dX6_rises_23 (by decide) h (fun c9 h => ?_) (fun c9 h => ?_)
      · refine r_sipush X dX6_rises_26 (by decide) ?_
        cases h
        exact r_iret X hr dX6_rises_29
      · refine r_iconst X dX6_rises_30 ?_
        refine r_istore X dX6_rises_31 (hL 5 (by decide)) (lv' := [(5, iv (0)), (0, .ref (a0)), (1, iv (x1)), (2, iv (x2)), (3, iv (x3)), (4, iv (x4))]) rfl ?_
        refine r_iload_n X 4 dX6_rises_33 rfl rfl ?_
        refine r_istore X dX6_rises_34 (hL 6 (by decide)) (lv' := [(6, iv (x3)), (5, iv (0)), (0, .ref (a0)), (1, iv (x1)), (2, iv (x2)), (3, iv (x3)), (4, iv (x4))]) rfl ?_
        have L36 : ∀ s : Int × Int, lp (fun s => f_X6_rises_b36 (σ) (a0) (x1) (x2) (x4) s.1 s.2) s = some w → V Γ (σ) 0 0 36 [(0, .ref (a0)), (1, iv (x1)), (2, iv (x2)), (4, iv (x4)), (5, iv (s.1)), (6, iv (s.2))] [] := by
          refine lp_rule (P := fun s : Int × Int => V Γ (σ) 0 0 36 [(0, .ref (a0)), (1, iv (x1)), (2, iv (x2)), (4, iv (x4)), (5, iv (s.1)), (6, iv (s.2))] []) ?_
          intro s z1 h ihb1 ihe1
          obtain ⟨v5_1, v6_1⟩ := s
          have h : f_X6_rises_b36 (σ) (a0) (x1) (x2) (x4) v5_1 v6_1 = some z1 := h
          unfold f_X6_rises_b36 at h
          show V Γ σ 0 0 36 [(0, .ref (a0)), (1, iv (x1)), (2, iv (x2)), (4, iv (x4)), (5, iv (v5_1)), (6, iv (v6_1))] []
          have J88 : ∀ (v5_j88 : Int) (v6_j88 : Int) (t0_j88 : Int), f_X6_rises_j88 (σ) (a0) (x1) (x2) (x4) v5_j88 v6_j88 t0_j88 = some z1 → V Γ σ 0 0 88 [(0, .ref (a0)), (1, iv (x1)), (2, iv (x2)), (4, iv (x4)), (5, iv (v5_j88)), (6, iv (v6_j88))] [iv (t0_j88)] := by
            intro v5_j88 v6_j88 t0_j88 h
            unfold f_X6_rises_j88 at h
            refine r_istore X dX6_rises_88 (hL 7 (by decide)) (lv' := [(7, iv (t0_j88)), (0, .ref (a0)), (1, iv (x1)), (2, iv (x2)), (4, iv (x4)), (5, iv (v5_j88)), (6, iv (v6_j88))]) rfl ?_
            refine r_iload X 5 dX6_rises_90 rfl ?_
            refine r_iload X 0 dX6_rises_92 rfl ?_
            refine r_if_eq (tgt := 117) X dX6_rises_94 (by decide) h (fun c10 h => ?_) (fun c10 h => ?_)
            · refine r_iconst X dX6_rises_117 ?_
              refine r_iadd X dX6_rises_118 ?_
              refine r_istore X dX6_rises_119 (hL 5 (by decide)) (lv' := [(5, iv ((v5_j88 + 0))), (7, iv (t0_j88)), (0, .ref (a0)), (1, iv (x1)), (2, iv (x2)), (4, iv (x4)), (6, iv (v6_j88))]) rfl ?_
              refine r_iinc X 6 dX6_rises_121 rfl (hL 6 (by decide)) (lv' := [(6, iv ((v6_j88 + 1))), (5, iv ((v5_j88 + 0))), (7, iv (t0_j88)), (0, .ref (a0)), (1, iv (x1)), (2, iv (x2)), (4, iv (x4))]) rfl ?_
              refine r_goto (tgt := 36) X dX6_rises_124 (by decide) ?_
              exact V.sub [3, 4, 5, 6, 1, 0] rfl (ihb1 _ (Option.some.inj h).symm)
            · refine r_aload_n X 1 dX6_rises_97 rfl rfl ?_
              refine r_iload_n X 2 dX6_rises_98 rfl rfl ?_
              refine r_iload X 6 dX6_rises_99 rfl ?_
              obtain ⟨r12, h11, h⟩ := bd_some h
              refine r_cV (Wd := 1) X (fun l D sz => w_X6_costOf l D sz h11) ho0.1 rfl q1890 qs102 q1888 q109 q1891 hy_X6_costOf rfl dX6_rises_101 rfl rfl (Nat.le_of_ble_eq_true rfl) ⟨Nat.le_of_ble_eq_true rfl, Nat.le_of_ble_eq_true rfl⟩ ⟨Nat.le_of_ble_eq_true rfl, Nat.le_of_ble_eq_true rfl⟩ ?_
              refine r_aload_n X 1 dX6_rises_104 rfl rfl ?_
              refine r_iload_n X 3 dX6_rises_105 rfl rfl ?_
              refine r_iload X 6 dX6_rises_106 rfl ?_
              obtain ⟨r14, h13, h⟩ := bd_some h
              refine r_cV (Wd := 2) X (fun l D sz => w_X6_costOf l D sz h13) ho0.1 rfl q1890 qs102 q1888 q109 q1891 hy_X6_costOf rfl dX6_rises_108 rfl rfl (Nat.le_of_ble_eq_true rfl) ⟨Nat.le_of_ble_eq_true rfl, Nat.le_of_ble_eq_true rfl⟩ ⟨Nat.le_of_ble_eq_true rfl, Nat.le_of_ble_eq_true rfl⟩ ?_
              obtain ⟨r16, h15, h⟩ := bd_some h
              refine r_cS (Wd := 1) X (fun l D sz => w_J5_compare l D sz h15) q989 q1728 q125 q990 hy_J5_compare rfl dX6_rises_111 rfl rfl (Nat.le_of_ble_eq_true rfl) ⟨Nat.le_of_ble_eq_true rfl, Nat.le_of_ble_eq_true rfl⟩ ⟨Nat.le_of_ble_eq_true rfl, Nat.le_of_ble_eq_true rfl⟩ ?_
              refine r_goto (tgt := 118) X dX6_rises_114 (by decide) ?_
              refine r_iadd X dX6_rises_118 ?_
              refine r_istore X dX6_rises_119 (hL 5 (by decide)) (lv' := [(5, iv ((v5_j88 + r16))), (7, iv (t0_j88)), (0, .ref (a0)), (1, iv (x1)), (2, iv (x2)), (4, iv (x4)), (6, iv (v6_j88))]) rfl ?_
              refine r_iinc X 6 dX6_rises_121 rfl (hL 6 (by decide)) (lv' := [(6, iv ((v6_j88 + 1))), (5, iv ((v5_j88 + r16))), (7, iv (t0_j88)), (0, .ref (a0)), (1, iv (x1)), (2, iv (x2)), (4, iv (x4))]) rfl ?_
              refine r_goto (tgt := 36) X dX6_rises_124 (by decide) ?_
              exact V.sub [3, 4, 5, 6, 1, 0] rfl (ihb1 _ (Option.some.inj h).symm)
          have J87 : ∀ (v5_j87 : Int) (v6_j87 : Int), f_X6_rises_j87 (σ) (a0) (x1) (x2) (x4) v5_j87 v6_j87 = some z1 → V Γ σ 0 0 87 [(0, .ref (a0)), (1, iv (x1)), (2, iv (x2)), (4, iv (x4)), (5, iv (v5_j87)), (6, iv (v6_j87))] [] := by
            intro v5_j87 v6_j87 h
            unfold f_X6_rises_j87 at h
            refine r_iconst X dX6_rises_87 ?_
            exact V.sub [0, 1, 2, 3, 4, 5] rfl (J88 (v5_j87) (v6_j87) (0) h)
          refine r_iload X 5 dX6_rises_36 rfl ?_
          refine r_iload X 3 dX6_rises_38 rfl ?_
          refine r_icmp_gt (tgt := 127) X dX6_rises_40 (by decide) h (fun c17 h => ?_) (fun c17 h => ?_)
          · have h := ex_some h ihe1
            refine r_iload X 4 dX6_rises_127 rfl ?_
            cases h
            exact r_iret X hr dX6_rises_129
          · refine r_aload_n X 0 dX6_rises_43 rfl rfl ?_
            refine r_getA (kf := 30) X ho0.1 rfl (by decide) (by decide) (Or.inl q1271) dX6_rises_44 ?_
            refine r_sipush X dX6_rises_47 (by decide) ?_
            refine r_iload_n X 1 dX6_rises_50 rfl rfl ?_
            refine r_imul X dX6_rises_51 ?_
            refine r_iload X 5 dX6_rises_52 rfl ?_
            refine r_iadd X dX6_rises_54 ?_
            refine r_lald X ho0.1 (ho0.2 30 (by decide)) rfl rfl rfl (by decide) dX6_rises_55 h (fun h => ?_)
            refine r_ldc2 (z := 1152921504606846976) X q1589 dX6_rises_56 rfl ?_
            refine r_lcmp_ge (tgt := 87) X dX6_rises_59 dX6_rises_60 (by decide) h (fun c18 h => ?_) (fun c18 h => ?_)
            · refine r_aload_n X 0 dX6_rises_63 rfl rfl ?_
              refine r_getA (kf := 30) X ho0.1 rfl (by decide) (by decide) (Or.inl q1271) dX6_rises_64 ?_
              refine r_sipush X dX6_rises_67 (by decide) ?_
              refine r_iload_n X 2 dX6_rises_70 rfl rfl ?_
              refine r_imul X dX6_rises_71 ?_
              refine r_iload X 5 dX6_rises_72 rfl ?_
              refine r_iadd X dX6_rises_74 ?_
              refine r_lald X ho0.1 (ho0.2 30 (by decide)) rfl rfl rfl (by decide) dX6_rises_75 h (fun h => ?_)
              refine r_ldc2 (z := 1152921504606846976) X q1589 dX6_rises_76 rfl ?_
              refine r_lcmp_ge (tgt := 87) X dX6_rises_79 dX6_rises_80 (by decide) h (fun c19 h => ?_) (fun c19 h => ?_)
              · refine r_iconst X dX6_rises_83 ?_
                refine r_goto (tgt := 88) X dX6_rises_84 (by decide) ?_
                exact V.sub [0, 1, 2, 3, 4, 5] rfl (J88 (v5_1) (v6_1) (1) h)
              · exact V.sub [0, 1, 2, 3, 4, 5] rfl (J87 (v5_1) (v6_1) h)
            · exact V.sub [0, 1, 2, 3, 4, 5] rfl (J87 (v5_1) (v6_1) h)
        exact V.sub [2, 3, 4, 6, 1, 0] rfl (L36 (0, x3) h)
theorem hy_X6_count : yX6_count.cls ≠ "java/lang/invoke/MethodHandle" ∧ yX6_count.cls ≠ "java/lang/invoke/VarHandle" ∧ (parseMethodDescriptor yX6_count.desc).map (fun d => d.parameters.length) = some 1 := by decide +kernel
set_option maxHeartbeats 4000000 in
theorem w_X6_count (l : Launch) (D : DD) (sz : Nat) {σ : St} {a0 : Nat} {x1 : Int} {w : Int} (h : f_X6_count σ a0 x1 = some w) : Mt l yX6_count cX6_count 2 (some FieldType.int) ({ frames := 0, cells := 0, slots := 0, locals := 0 } : Room) D sz σ [.ref a0, iv (x1)] (.returned (some (iv w))) (σ) 0 0 := by
  refine Mt.of (by decide +kernel) (Nat.le_of_ble_eq_true rfl) ?_
  intro Γ X hr hnl hini hnoh
  have X : Cx Γ cX6_count "DayBoyModel" _ := X
  have hL : ∀ i, i < 2 → i < nLc Γ := fun i q => by rw [hnl]; exact q
  show V Γ σ 0 0 0 [(0, .ref (a0)), (1, iv (x1))] []
  unfold f_X6_count at h
  obtain ⟨ho0, h⟩ := cO_some h
  refine r_iload_n X 1 dX6_count_0 rfl rfl ?_
  obtain ⟨hrc2, -, hA, h⟩ := cEq_some h
  by_cases c2 : (x1) = 0
  · have h := hA c2
    refine r_tabIn (tgt := 53) X dX6_count_1 hrc2 0 c2 (by decide) (by decide) rfl (by decide) ?_
    refine r_aload_n X 0 dX6_count_53 rfl rfl ?_
    refine r_getI (kf := 14) X ho0.1 rfl (by decide) rfl (Or.inl q1255) dX6_count_54 ?_
    cases h
    exact r_iret X hr dX6_count_57
  have h := h c2
  obtain ⟨hrc3, -, hA, h⟩ := cEq_some h
  by_cases c3 : (x1) = 1
  · have h := hA c3
    refine r_tabIn (tgt := 58) X dX6_count_1 hrc3 1 c3 (by decide) (by decide) rfl (by decide) ?_
    refine r_aload_n X 0 dX6_count_58 rfl rfl ?_
    refine r_getI (kf := 28) X ho0.1 rfl (by decide) rfl (Or.inl q1269) dX6_count_59 ?_
    cases h
    exact r_iret X hr dX6_count_62
  have h := h c3
  obtain ⟨hrc4, -, hA, h⟩ := cEq_some h
  by_cases c4 : (x1) = 2
  · have h := hA c4
    refine r_tabIn (tgt := 63) X dX6_count_1 hrc4 2 c4 (by decide) (by decide) rfl (by decide) ?_
    refine r_aload_n X 0 dX6_count_63 rfl rfl ?_
    refine r_getI (kf := 49) X ho0.1 rfl (by decide) rfl (Or.inl q1290) dX6_count_64 ?_
    cases h
    exact r_iret X hr dX6_count_67
  have h := h c4
  obtain ⟨hrc5, -, hA, h⟩ := cEq_some h
  by_cases c5 : (x1) = 3
  · have h := hA c5
    refine r_tabIn (tgt := 68) X dX6_count_1 hrc5 3 c5 (by decide) (by decide) rfl (by decide) ?_
    refine r_aload_n X 0 dX6_count_68 rfl rfl ?_
    refine r_getI (kf := 54) X ho0.1 rfl (by decide) rfl (Or.inl q1295) dX6_count_69 ?_
    cases h
    exact r_iret X hr dX6_count_72
  have h := h c5
  obtain ⟨hrc6, -, hA, h⟩ := cEq_some h
  by_cases c6 : (x1) = 4
  · have h := hA c6
    refine r_tabIn (tgt := 73) X dX6_count_1 hrc6 4 c6 (by decide) (by decide) rfl (by decide) ?_
    refine r_aload_n X 0 dX6_count_73 rfl rfl ?_
    refine r_getI (kf := 63) X ho0.1 rfl (by decide) rfl (Or.inl q1304) dX6_count_74 ?_
    cases h
    exact r_iret X hr dX6_count_77
  have h := h c6
  obtain ⟨hrc7, -, hA, h⟩ := cEq_some h
  by_cases c7 : (x1) = 5
  · have h := hA c7
    refine r_tabIn (tgt := 78) X dX6_count_1 hrc7 5 c7 (by decide) (by decide) rfl (by decide) ?_
    refine r_aload_n X 0 dX6_count_78 rfl rfl ?_
    refine r_getI (kf := 2) X ho0.1 rfl (by decide) rfl (Or.inl q1243) dX6_count_79 ?_
    cases h
    exact r_iret X hr dX6_count_82
  have h := h c7
  obtain ⟨hrc8, -, hA, h⟩ := cEq_some h
  by_cases c8 : (x1) = 6
  · have h := hA c8
    refine r_tabIn (tgt := 83) X dX6_count_1 hrc8 6 c8 (by decide) (by decide) rfl (by decide) ?_
    refine r_aload_n X 0 dX6_count_83 rfl rfl ?_
    refine r_getI (kf := 56) X ho0.1 rfl (by decide) rfl (Or.inl q1297) dX6_count_84 ?_
    cases h
    exact r_iret X hr dX6_count_87
  have h := h c8
  obtain ⟨hrc9, -, hA, h⟩ := cEq_some h
  by_cases c9 : (x1) = 7
  · have h := hA c9
    refine r_tabIn (tgt := 48) X dX6_count_1 hrc9 7 c9 (by decide) (by decide) rfl (by decide) ?_
    refine r_aload_n X 0 dX6_count_48 rfl rfl ?_
    refine r_getI (kf := 69) X ho0.1 rfl (by decide) rfl (Or.inl q1310) dX6_count_49 ?_
    cases h
    exact r_iret X hr dX6_count_52
  have h := h c9
  refine r_tabOut (tgt := 88) X dX6_count_1 hrc2 (by omega) (by decide) ?_
  refine r_sipush X dX6_count_88 (by decide) ?_
  cases h
  exact r_iret X hr dX6_count_91
