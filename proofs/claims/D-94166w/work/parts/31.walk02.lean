/-! walks (printed by gen.py) -/
set_option maxRecDepth 100000
theorem hy_X5_nextYear : yX5_nextYear.cls ≠ "java/lang/invoke/MethodHandle" ∧ yX5_nextYear.cls ≠ "java/lang/invoke/VarHandle" ∧ (parseMethodDescriptor yX5_nextYear.desc).map (fun d => d.parameters.length) = some 1 := by decide +kernel
set_option maxHeartbeats 4000000 in
theorem w_X5_nextYear (l : Launch) (D : DD) (sz : Nat) {σ : St} {a0 : Nat} {x1 : Int} {w : Int} (h : f_X5_nextYear σ a0 x1 = some w) : Mt l yX5_nextYear cX5_nextYear 6 (some FieldType.int) ({ frames := 2, cells := 0, slots := 0, locals := 33 } : Room) D sz σ [.ref a0, iv (x1)] (.returned (some (iv w))) (σ) 0 0 := by
  refine Mt.of (by decide +kernel) (Nat.le_of_ble_eq_true rfl) ?_
  intro Γ X hr hnl hini hnoh
  have X : Cx Γ cX5_nextYear "DayBoy$Head" _ := X
  have hL : ∀ i, i < 6 → i < nLc Γ := fun i q => by rw [hnl]; exact q
  show V Γ σ 0 0 0 [(0, .ref (a0)), (1, iv (x1))] []
  unfold f_X5_nextYear at h
  obtain ⟨ho0, h⟩ := cO_some h
  refine r_iconst X dX5_nextYear_0 ?_
  refine r_istore_n X dX5_nextYear_1 rfl (hL 2 (by decide)) (lv' := [(2, iv ((-1))), (0, .ref (a0)), (1, iv (x1))]) rfl ?_
  refine r_iconst X dX5_nextYear_2 ?_
  refine r_istore_n X dX5_nextYear_3 rfl (hL 3 (by decide)) (lv' := [(3, iv (0)), (2, iv ((-1))), (0, .ref (a0)), (1, iv (x1))]) rfl ?_
  have L4 : ∀ s : Int × Int, lp (fun s => f_X5_nextYear_b4 (σ) (a0) (x1) s.1 s.2) s = some w → V Γ (σ) 0 0 4 [(0, .ref (a0)), (1, iv (x1)), (2, iv (s.1)), (3, iv (s.2))] [] := by
    refine lp_rule (P := fun s : Int × Int => V Γ (σ) 0 0 4 [(0, .ref (a0)), (1, iv (x1)), (2, iv (s.1)), (3, iv (s.2))] []) ?_
    intro s z1 h ihb1 ihe1
    obtain ⟨v2_1, v3_1⟩ := s
    have h : f_X5_nextYear_b4 (σ) (a0) (x1) v2_1 v3_1 = some z1 := h
    unfold f_X5_nextYear_b4 at h
    show V Γ σ 0 0 4 [(0, .ref (a0)), (1, iv (x1)), (2, iv (v2_1)), (3, iv (v3_1))] []
    refine r_iload_n X 3 dX5_nextYear_4 rfl rfl ?_
    refine r_aload_n X 0 dX5_nextYear_5 rfl rfl ?_
    refine r_getI (kf := 14) X ho0.1 rfl (by decide) rfl (Or.inl q238) dX5_nextYear_6 ?_
    refine r_icmp_ge (tgt := 72) X dX5_nextYear_9 (by decide) h (fun c1 h => ?_) (fun c1 h => ?_)
    · refine r_aload_n X 0 dX5_nextYear_12 rfl rfl ?_
      refine r_getA (kf := 9) X ho0.1 rfl (by decide) (by decide) (Or.inl q228) dX5_nextYear_13 ?_
      refine r_iload_n X 1 dX5_nextYear_16 rfl rfl ?_
      refine r_lald X ho0.1 (ho0.2 9 (by decide)) rfl rfl rfl (by decide) dX5_nextYear_17 h (fun h => ?_)
      refine r_ldc2 (z := 20000) X q741 dX5_nextYear_18 rfl ?_
      refine r_aload_n X 0 dX5_nextYear_21 rfl rfl ?_
      refine r_getA (kf := 3) X ho0.1 rfl (by decide) (by decide) (Or.inl q211) dX5_nextYear_22 ?_
      refine r_iload_n X 3 dX5_nextYear_25 rfl rfl ?_
      refine r_iald X ho0.1 (ho0.2 3 (by decide)) rfl rfl rfl (by decide) dX5_nextYear_26 h (fun h => ?_)
      obtain ⟨c2, h⟩ := ck_some h
      refine r_i2l X dX5_nextYear_27 c2 ?_
      refine r_lmul X dX5_nextYear_28 ?_
      refine r_lsub X dX5_nextYear_29 ?_
      refine r_lconst (y := 1) X dX5_nextYear_30 rfl ?_
      refine r_lsub X dX5_nextYear_31 ?_
      refine r_lstore X dX5_nextYear_32 (hL 5 (by decide)) (lv' := [(4, jv ((((gJ (σ) (a0) 9 (x1)) - (20000 * (gI (σ) (a0) 3 (v3_1)))) - 1))), (0, .ref (a0)), (1, iv (x1)), (2, iv (v2_1)), (3, iv (v3_1))]) rfl ?_
      refine r_aload_n X 1 dX5_nextYear_34 rfl rfl ?_
      refine r_iload_n X 3 dX5_nextYear_35 rfl rfl ?_
      refine r_iload_n X 2 dX5_nextYear_36 rfl rfl ?_
      refine r_aload_n X 1 dX5_nextYear_37 rfl rfl ?_
      refine r_getA (kf := 2) X ho0.1 rfl (by decide) (by decide) (Or.inl q207) dX5_nextYear_38 ?_
      refine r_iload_n X 4 dX5_nextYear_41 rfl rfl ?_
      refine r_iald X ho0.1 (ho0.2 2 (by decide)) rfl rfl rfl (by decide) dX5_nextYear_42 h (fun h => ?_)
      refine r_isub X dX5_nextYear_43 ?_
      refine r_lload X 0 dX5_nextYear_44 rfl ?_
      obtain ⟨r4, h3, h⟩ := bd_some h
      refine r_cV (Wd := 0) X (fun l D sz => w_X5_better l D sz h3) ho0.1 rfl q872 qs29 q870 q108 q873 hy_X5_better rfl dX5_nextYear_46 rfl rfl (Nat.le_of_ble_eq_true rfl) ⟨Nat.le_of_ble_eq_true rfl, Nat.le_of_ble_eq_true rfl⟩ ⟨Nat.le_of_ble_eq_true rfl, Nat.le_of_ble_eq_true rfl⟩ ?_
      refine r_istore_n X dX5_nextYear_49 rfl (hL 2 (by decide)) (lv' := [(2, iv (r4)), (4, jv ((((gJ (σ) (a0) 9 (x1)) - (20000 * (gI (σ) (a0) 3 (v3_1)))) - 1))), (0, .ref (a0)), (1, iv (x1)), (3, iv (v3_1))]) rfl ?_
      refine r_aload_n X 2 dX5_nextYear_50 rfl rfl ?_
      refine r_iload_n X 0 dX5_nextYear_51 rfl rfl ?_
      refine r_iload_n X 3 dX5_nextYear_52 rfl rfl ?_
      refine r_aload_n X 2 dX5_nextYear_53 rfl rfl ?_
      refine r_getA (kf := 2) X ho0.1 rfl (by decide) (by decide) (Or.inl q207) dX5_nextYear_54 ?_
      refine r_iload_n X 4 dX5_nextYear_57 rfl rfl ?_
      refine r_iald X ho0.1 (ho0.2 2 (by decide)) rfl rfl rfl (by decide) dX5_nextYear_58 h (fun h => ?_)
      refine r_iadd X dX5_nextYear_59 ?_
      refine r_lload X 1 dX5_nextYear_60 rfl ?_
      obtain ⟨r6, h5, h⟩ := bd_some h
      refine r_cV (Wd := 0) X (fun l D sz => w_X5_better l D sz h5) ho0.1 rfl q872 qs29 q870 q108 q873 hy_X5_better rfl dX5_nextYear_62 rfl rfl (Nat.le_of_ble_eq_true rfl) ⟨Nat.le_of_ble_eq_true rfl, Nat.le_of_ble_eq_true rfl⟩ ⟨Nat.le_of_ble_eq_true rfl, Nat.le_of_ble_eq_true rfl⟩ ?_
      refine r_istore_n X dX5_nextYear_65 rfl (hL 2 (by decide)) (lv' := [(2, iv (r6)), (4, jv ((((gJ (σ) (a0) 9 (x1)) - (20000 * (gI (σ) (a0) 3 (v3_1)))) - 1))), (0, .ref (a0)), (1, iv (x1)), (3, iv (v3_1))]) rfl ?_
      refine r_iinc X 4 dX5_nextYear_66 rfl (hL 3 (by decide)) (lv' := [(3, iv ((v3_1 + 1))), (2, iv (r6)), (4, jv ((((gJ (σ) (a0) 9 (x1)) - (20000 * (gI (σ) (a0) 3 (v3_1)))) - 1))), (0, .ref (a0)), (1, iv (x1))]) rfl ?_
      refine r_goto (tgt := 4) X dX5_nextYear_69 (by decide) ?_
      exact V.sub [3, 4, 1, 0] rfl (ihb1 _ (Option.some.inj h).symm)
    · have h := ex_some h ihe1
      refine r_iload_n X 2 dX5_nextYear_72 rfl rfl ?_
      cases h
      exact r_iret X hr dX5_nextYear_73
  exact V.sub [2, 3, 1, 0] rfl (L4 ((-1), 0) h)
theorem hy_X5_knownYear : yX5_knownYear.cls ≠ "java/lang/invoke/MethodHandle" ∧ yX5_knownYear.cls ≠ "java/lang/invoke/VarHandle" ∧ (parseMethodDescriptor yX5_knownYear.desc).map (fun d => d.parameters.length) = some 1 := by decide +kernel
set_option maxHeartbeats 4000000 in
theorem w_X5_knownYear (l : Launch) (D : DD) (sz : Nat) {σ : St} {a0 : Nat} {x1 : Int} {w : Int × St} (h : f_X5_knownYear σ a0 x1 = some w) : Mt l yX5_knownYear cX5_knownYear 3 (some FieldType.int) ({ frames := 3, cells := 0, slots := 0, locals := 50 } : Room) D sz σ [.ref a0, iv (x1)] (.returned (some (iv w.1))) (w.2) 0 0 := by
  refine Mt.of (by decide +kernel) (Nat.le_of_ble_eq_true rfl) ?_
  intro Γ X hr hnl hini hnoh
  have X : Cx Γ cX5_knownYear "DayBoy$Head" _ := X
  have hL : ∀ i, i < 3 → i < nLc Γ := fun i q => by rw [hnl]; exact q
  show V Γ σ 0 0 0 [(0, .ref (a0)), (1, iv (x1))] []
  unfold f_X5_knownYear at h
  obtain ⟨ho0, h⟩ := cO_some h
  refine r_aload_n X 0 dX5_knownYear_0 rfl rfl ?_
  refine r_getI (kf := 17) X ho0.1 rfl (by decide) rfl (Or.inl q247) dX5_knownYear_1 ?_
  refine r_iload_n X 1 dX5_knownYear_4 rfl rfl ?_
  refine r_icmp_ne (tgt := 13) X dX5_knownYear_5 (by decide) h (fun c1 h => ?_) (fun c1 h => ?_)
  · refine r_aload_n X 0 dX5_knownYear_8 rfl rfl ?_
    refine r_getI (kf := 18) X ho0.1 rfl (by decide) rfl (Or.inl q248) dX5_knownYear_9 ?_
    cases h
    exact r_iret X hr dX5_knownYear_12
  · refine r_iload_n X 1 dX5_knownYear_13 rfl rfl ?_
    refine r_istore_n X dX5_knownYear_14 rfl (hL 2 (by decide)) (lv' := [(2, iv (x1)), (0, .ref (a0)), (1, iv (x1))]) rfl ?_
    have L15 : ∀ s : Int, lp (fun s => f_X5_knownYear_b15 (σ) (a0) (x1) s) s = some w → V Γ (σ) 0 0 15 [(0, .ref (a0)), (1, iv (x1)), (2, iv (s))] [] := by
      refine lp_rule (P := fun s : Int => V Γ (σ) 0 0 15 [(0, .ref (a0)), (1, iv (x1)), (2, iv (s))] []) ?_
      intro s z1 h ihb1 ihe1
      obtain ⟨v2_1, es⟩ : ∃ q, q = s := ⟨s, rfl⟩
      subst es
      have h : f_X5_knownYear_b15 (σ) (a0) (x1) v2_1 = some z1 := h
      unfold f_X5_knownYear_b15 at h
      show V Γ σ 0 0 15 [(0, .ref (a0)), (1, iv (x1)), (2, iv (v2_1))] []
      refine r_aload_n X 0 dX5_knownYear_15 rfl rfl ?_
      refine r_getA (kf := 9) X ho0.1 rfl (by decide) (by decide) (Or.inl q228) dX5_knownYear_16 ?_
      refine r_iload_n X 2 dX5_knownYear_19 rfl rfl ?_
      refine r_lald X ho0.1 (ho0.2 9 (by decide)) rfl rfl rfl (by decide) dX5_knownYear_20 h (fun h => ?_)
      refine r_lconst (y := 0) X dX5_knownYear_21 rfl ?_
      refine r_lcmp_le (tgt := 35) X dX5_knownYear_22 dX5_knownYear_23 (by decide) h (fun c2 h => ?_) (fun c2 h => ?_)
      · refine r_aload_n X 0 dX5_knownYear_26 rfl rfl ?_
        refine r_iload_n X 2 dX5_knownYear_27 rfl rfl ?_
        obtain ⟨r4, h3, h⟩ := bd_some h
        refine r_cV (Wd := 0) X (fun l D sz => w_X5_nextYear l D sz h3) ho0.1 rfl q867 q868 q866 q108 q869 hy_X5_nextYear rfl dX5_knownYear_28 rfl rfl (Nat.le_of_ble_eq_true rfl) ⟨Nat.le_of_ble_eq_true rfl, Nat.le_of_ble_eq_true rfl⟩ ⟨Nat.le_of_ble_eq_true rfl, Nat.le_of_ble_eq_true rfl⟩ ?_
        refine r_istore_n X dX5_knownYear_31 rfl (hL 2 (by decide)) (lv' := [(2, iv (r4)), (0, .ref (a0)), (1, iv (x1))]) rfl ?_
        refine r_goto (tgt := 15) X dX5_knownYear_32 (by decide) ?_
        exact V.sub [1, 2, 0] rfl (ihb1 _ (Option.some.inj h).symm)
      · have h := ex_some h ihe1
        refine r_aload_n X 0 dX5_knownYear_35 rfl rfl ?_
        refine r_iload_n X 1 dX5_knownYear_36 rfl rfl ?_
        refine r_putI (kf := 17) X ho0.1 rfl (by decide) rfl rfl (Or.inl q247) dX5_knownYear_37 rfl ?_
        refine r_let h (fun σ5 eσ5 h => ?_)
        refine r_aload_n X 0 dX5_knownYear_40 rfl rfl ?_
        refine r_iload_n X 2 dX5_knownYear_41 rfl rfl ?_
        have hk6 : oc σ5 (a0) 4 := by rw [eσ5]; exact ho0
        refine r_putI (kf := 18) X hk6.1 rfl (by decide) rfl rfl (Or.inl q248) dX5_knownYear_42 rfl ?_
        refine r_let h (fun σ7 eσ7 h => ?_)
        refine r_iload_n X 2 dX5_knownYear_45 rfl rfl ?_
        cases h
        exact r_iret X hr dX5_knownYear_46
    exact V.sub [1, 2, 0] rfl (L15 (x1) h)
theorem hy_X5_nextMonth : yX5_nextMonth.cls ≠ "java/lang/invoke/MethodHandle" ∧ yX5_nextMonth.cls ≠ "java/lang/invoke/VarHandle" ∧ (parseMethodDescriptor yX5_nextMonth.desc).map (fun d => d.parameters.length) = some 1 := by decide +kernel
set_option maxHeartbeats 4000000 in
theorem w_X5_nextMonth (l : Launch) (D : DD) (sz : Nat) {σ : St} {a0 : Nat} {x1 : Int} {w : Int} (h : f_X5_nextMonth σ a0 x1 = some w) : Mt l yX5_nextMonth cX5_nextMonth 5 (some FieldType.int) ({ frames := 0, cells := 0, slots := 0, locals := 0 } : Room) D sz σ [.ref a0, iv (x1)] (.returned (some (iv w))) (σ) 0 0 := by
  refine Mt.of (by decide +kernel) (Nat.le_of_ble_eq_true rfl) ?_
  intro Γ X hr hnl hini hnoh
  have X : Cx Γ cX5_nextMonth "DayBoy$Head" _ := X
  have hL : ∀ i, i < 5 → i < nLc Γ := fun i q => by rw [hnl]; exact q
  show V Γ σ 0 0 0 [(0, .ref (a0)), (1, iv (x1))] []
  unfold f_X5_nextMonth at h
  obtain ⟨ho0, h⟩ := cO_some h
  refine r_iconst X dX5_nextMonth_0 ?_
  refine r_istore_n X dX5_nextMonth_1 rfl (hL 2 (by decide)) (lv' := [(2, iv ((-1))), (0, .ref (a0)), (1, iv (x1))]) rfl ?_
  refine r_iconst X dX5_nextMonth_2 ?_
  refine r_istore_n X dX5_nextMonth_3 rfl (hL 3 (by decide)) (lv' := [(3, iv (0)), (2, iv ((-1))), (0, .ref (a0)), (1, iv (x1))]) rfl ?_
  have L4 : ∀ s : Int × Int, lp (fun s => f_X5_nextMonth_b4 (σ) (a0) (x1) s.1 s.2) s = some w → V Γ (σ) 0 0 4 [(0, .ref (a0)), (1, iv (x1)), (2, iv (s.1)), (3, iv (s.2))] [] := by
    refine lp_rule (P := fun s : Int × Int => V Γ (σ) 0 0 4 [(0, .ref (a0)), (1, iv (x1)), (2, iv (s.1)), (3, iv (s.2))] []) ?_
    intro s z1 h ihb1 ihe1
    obtain ⟨v2_1, v3_1⟩ := s
    have h : f_X5_nextMonth_b4 (σ) (a0) (x1) v2_1 v3_1 = some z1 := h
    unfold f_X5_nextMonth_b4 at h
    show V Γ σ 0 0 4 [(0, .ref (a0)), (1, iv (x1)), (2, iv (v2_1)), (3, iv (v3_1))] []
    have J60 : ∀ (v2_j60 : Int) (v3_j60 : Int) (t0_j60 : Int), f_X5_nextMonth_j60 (σ) (a0) (x1) v2_j60 v3_j60 t0_j60 = some z1 → V Γ σ 0 0 60 [(0, .ref (a0)), (1, iv (x1)), (2, iv (v2_j60)), (3, iv (v3_j60))] [iv (t0_j60)] := by
      intro v2_j60 v3_j60 t0_j60 h
      unfold f_X5_nextMonth_j60 at h
      refine r_istore X dX5_nextMonth_60 (hL 4 (by decide)) (lv' := [(4, iv (t0_j60)), (0, .ref (a0)), (1, iv (x1)), (2, iv (v2_j60)), (3, iv (v3_j60))]) rfl ?_
      refine r_aload_n X 1 dX5_nextMonth_62 rfl rfl ?_
      refine r_getA (kf := 10) X ho0.1 rfl (by decide) (by decide) (Or.inl q230) dX5_nextMonth_63 ?_
      refine r_iload X 0 dX5_nextMonth_66 rfl ?_
      refine r_lald X ho0.1 (ho0.2 10 (by decide)) rfl rfl rfl (by decide) dX5_nextMonth_68 h (fun h => ?_)
      refine r_ldc2 (z := 20000) X q741 dX5_nextMonth_69 rfl ?_
      refine r_aload_n X 1 dX5_nextMonth_72 rfl rfl ?_
      refine r_getA (kf := 6) X ho0.1 rfl (by decide) (by decide) (Or.inl q220) dX5_nextMonth_73 ?_
      refine r_iload_n X 4 dX5_nextMonth_76 rfl rfl ?_
      refine r_iald X ho0.1 (ho0.2 6 (by decide)) rfl rfl rfl (by decide) dX5_nextMonth_77 h (fun h => ?_)
      obtain ⟨c1, h⟩ := ck_some h
      refine r_i2l X dX5_nextMonth_78 c1 ?_
      refine r_lmul X dX5_nextMonth_79 ?_
      refine r_ladd X dX5_nextMonth_80 ?_
      refine r_lconst (y := 1) X dX5_nextMonth_81 rfl ?_
      refine r_ladd X dX5_nextMonth_82 ?_
      refine r_aload_n X 1 dX5_nextMonth_83 rfl rfl ?_
      refine r_getA (kf := 10) X ho0.1 rfl (by decide) (by decide) (Or.inl q230) dX5_nextMonth_84 ?_
      refine r_iload_n X 2 dX5_nextMonth_87 rfl rfl ?_
      refine r_lald X ho0.1 (ho0.2 10 (by decide)) rfl rfl rfl (by decide) dX5_nextMonth_88 h (fun h => ?_)
      refine r_lcmp_ne (tgt := 107) X dX5_nextMonth_89 dX5_nextMonth_90 (by decide) h (fun c2 h => ?_) (fun c2 h => ?_)
      · refine r_iload_n X 3 dX5_nextMonth_93 rfl rfl ?_
        refine r_iconst X dX5_nextMonth_94 ?_
        refine r_icmp_eq (tgt := 104) X dX5_nextMonth_95 (by decide) h (fun c3 h => ?_) (fun c3 h => ?_)
        · refine r_iload X 0 dX5_nextMonth_104 rfl ?_
          refine r_istore_n X dX5_nextMonth_106 rfl (hL 2 (by decide)) (lv' := [(2, iv (t0_j60)), (4, iv (t0_j60)), (0, .ref (a0)), (1, iv (x1)), (3, iv (v3_j60))]) rfl ?_
          refine r_iinc X 4 dX5_nextMonth_107 rfl (hL 3 (by decide)) (lv' := [(3, iv ((v3_j60 + 1))), (2, iv (t0_j60)), (4, iv (t0_j60)), (0, .ref (a0)), (1, iv (x1))]) rfl ?_
          refine r_goto (tgt := 4) X dX5_nextMonth_110 (by decide) ?_
          exact V.sub [3, 4, 1, 0] rfl (ihb1 _ (Option.some.inj h).symm)
        · refine r_iload X 0 dX5_nextMonth_98 rfl ?_
          refine r_iload_n X 3 dX5_nextMonth_100 rfl rfl ?_
          refine r_icmp_ge (tgt := 107) X dX5_nextMonth_101 (by decide) h (fun c4 h => ?_) (fun c4 h => ?_)
          · refine r_iload X 0 dX5_nextMonth_104 rfl ?_
            refine r_istore_n X dX5_nextMonth_106 rfl (hL 2 (by decide)) (lv' := [(2, iv (t0_j60)), (4, iv (t0_j60)), (0, .ref (a0)), (1, iv (x1)), (3, iv (v3_j60))]) rfl ?_
            refine r_iinc X 4 dX5_nextMonth_107 rfl (hL 3 (by decide)) (lv' := [(3, iv ((v3_j60 + 1))), (2, iv (t0_j60)), (4, iv (t0_j60)), (0, .ref (a0)), (1, iv (x1))]) rfl ?_
            refine r_goto (tgt := 4) X dX5_nextMonth_110 (by decide) ?_
            exact V.sub [3, 4, 1, 0] rfl (ihb1 _ (Option.some.inj h).symm)
          · refine r_iinc X 4 dX5_nextMonth_107 rfl (hL 3 (by decide)) (lv' := [(3, iv ((v3_j60 + 1))), (4, iv (t0_j60)), (0, .ref (a0)), (1, iv (x1)), (2, iv (v2_j60))]) rfl ?_
            refine r_goto (tgt := 4) X dX5_nextMonth_110 (by decide) ?_
            exact V.sub [2, 3, 4, 0] rfl (ihb1 _ (Option.some.inj h).symm)
      · refine r_iinc X 4 dX5_nextMonth_107 rfl (hL 3 (by decide)) (lv' := [(3, iv ((v3_j60 + 1))), (4, iv (t0_j60)), (0, .ref (a0)), (1, iv (x1)), (2, iv (v2_j60))]) rfl ?_
        refine r_goto (tgt := 4) X dX5_nextMonth_110 (by decide) ?_
        exact V.sub [2, 3, 4, 0] rfl (ihb1 _ (Option.some.inj h).symm)
    have J35 : ∀ (v2_j35 : Int) (v3_j35 : Int), f_X5_nextMonth_j35 (σ) (a0) (x1) v2_j35 v3_j35 = some z1 → V Γ σ 0 0 35 [(0, .ref (a0)), (1, iv (x1)), (2, iv (v2_j35)), (3, iv (v3_j35))] [] := by
      intro v2_j35 v3_j35 h
      unfold f_X5_nextMonth_j35 at h
      refine r_aload_n X 0 dX5_nextMonth_35 rfl rfl ?_
      refine r_getA (kf := 4) X ho0.1 rfl (by decide) (by decide) (Or.inl q214) dX5_nextMonth_36 ?_
      refine r_iload_n X 3 dX5_nextMonth_39 rfl rfl ?_
      refine r_iald X ho0.1 (ho0.2 4 (by decide)) rfl rfl rfl (by decide) dX5_nextMonth_40 h (fun h => ?_)
      refine r_iload_n X 1 dX5_nextMonth_41 rfl rfl ?_
      refine r_icmp_ne (tgt := 54) X dX5_nextMonth_42 (by decide) h (fun c5 h => ?_) (fun c5 h => ?_)
      · refine r_aload_n X 0 dX5_nextMonth_45 rfl rfl ?_
        refine r_getA (kf := 5) X ho0.1 rfl (by decide) (by decide) (Or.inl q217) dX5_nextMonth_46 ?_
        refine r_iload_n X 3 dX5_nextMonth_49 rfl rfl ?_
        refine r_iald X ho0.1 (ho0.2 5 (by decide)) rfl rfl rfl (by decide) dX5_nextMonth_50 h (fun h => ?_)
        refine r_goto (tgt := 60) X dX5_nextMonth_51 (by decide) ?_
        exact V.sub [0, 1, 2, 3] rfl (J60 (v2_j35) (v3_j35) ((gI (σ) (a0) 5 (v3_j35))) h)
      · refine r_aload_n X 0 dX5_nextMonth_54 rfl rfl ?_
        refine r_getA (kf := 4) X ho0.1 rfl (by decide) (by decide) (Or.inl q214) dX5_nextMonth_55 ?_
        refine r_iload_n X 3 dX5_nextMonth_58 rfl rfl ?_
        refine r_iald X ho0.1 (ho0.2 4 (by decide)) rfl rfl rfl (by decide) dX5_nextMonth_59 h (fun h => ?_)
        exact V.sub [0, 1, 2, 3] rfl (J60 (v2_j35) (v3_j35) ((gI (σ) (a0) 4 (v3_j35))) h)
    refine r_iload_n X 3 dX5_nextMonth_4 rfl rfl ?_
    refine r_aload_n X 0 dX5_nextMonth_5 rfl rfl ?_
    refine r_getI (kf := 15) X ho0.1 rfl (by decide) rfl (Or.inl q242) dX5_nextMonth_6 ?_
    refine r_icmp_ge (tgt := 113) X dX5_nextMonth_9 (by decide) h (fun c6 h => ?_) (fun c6 h => ?_)
    · refine r_aload_n X 0 dX5_nextMonth_12 rfl rfl ?_
      refine r_getA (kf := 4) X ho0.1 rfl (by decide) (by decide) (Or.inl q214) dX5_nextMonth_13 ?_
      refine r_iload_n X 3 dX5_nextMonth_16 rfl rfl ?_
      refine r_iald X ho0.1 (ho0.2 4 (by decide)) rfl rfl rfl (by decide) dX5_nextMonth_17 h (fun h => ?_)
      refine r_iload_n X 1 dX5_nextMonth_18 rfl rfl ?_
      refine r_icmp_eq (tgt := 35) X dX5_nextMonth_19 (by decide) h (fun c7 h => ?_) (fun c7 h => ?_)
      · exact V.sub [0, 1, 2, 3] rfl (J35 (v2_1) (v3_1) h)
      · refine r_aload_n X 0 dX5_nextMonth_22 rfl rfl ?_
        refine r_getA (kf := 5) X ho0.1 rfl (by decide) (by decide) (Or.inl q217) dX5_nextMonth_23 ?_
        refine r_iload_n X 3 dX5_nextMonth_26 rfl rfl ?_
        refine r_iald X ho0.1 (ho0.2 5 (by decide)) rfl rfl rfl (by decide) dX5_nextMonth_27 h (fun h => ?_)
        refine r_iload_n X 1 dX5_nextMonth_28 rfl rfl ?_
        refine r_icmp_eq (tgt := 35) X dX5_nextMonth_29 (by decide) h (fun c8 h => ?_) (fun c8 h => ?_)
        · exact V.sub [0, 1, 2, 3] rfl (J35 (v2_1) (v3_1) h)
        · refine r_goto (tgt := 107) X dX5_nextMonth_32 (by decide) ?_
          refine r_iinc X 3 dX5_nextMonth_107 rfl (hL 3 (by decide)) (lv' := [(3, iv ((v3_1 + 1))), (0, .ref (a0)), (1, iv (x1)), (2, iv (v2_1))]) rfl ?_
          refine r_goto (tgt := 4) X dX5_nextMonth_110 (by decide) ?_
          exact V.sub [1, 2, 3, 0] rfl (ihb1 _ (Option.some.inj h).symm)
    · have h := ex_some h ihe1
      refine r_iload_n X 2 dX5_nextMonth_113 rfl rfl ?_
      cases h
      exact r_iret X hr dX5_nextMonth_114
  exact V.sub [2, 3, 1, 0] rfl (L4 ((-1), 0) h)
theorem hy_X5_knownMonth : yX5_knownMonth.cls ≠ "java/lang/invoke/MethodHandle" ∧ yX5_knownMonth.cls ≠ "java/lang/invoke/VarHandle" ∧ (parseMethodDescriptor yX5_knownMonth.desc).map (fun d => d.parameters.length) = some 1 := by decide +kernel
set_option maxHeartbeats 4000000 in
theorem w_X5_knownMonth (l : Launch) (D : DD) (sz : Nat) {σ : St} {a0 : Nat} {x1 : Int} {w : Int} (h : f_X5_knownMonth σ a0 x1 = some w) : Mt l yX5_knownMonth cX5_knownMonth 3 (some FieldType.int) ({ frames := 1, cells := 0, slots := 0, locals := 16 } : Room) D sz σ [.ref a0, iv (x1)] (.returned (some (iv w))) (σ) 0 0 := by
  refine Mt.of (by decide +kernel) (Nat.le_of_ble_eq_true rfl) ?_
  intro Γ X hr hnl hini hnoh
  have X : Cx Γ cX5_knownMonth "DayBoy$Head" _ := X
  have hL : ∀ i, i < 3 → i < nLc Γ := fun i q => by rw [hnl]; exact q
  show V Γ σ 0 0 0 [(0, .ref (a0)), (1, iv (x1))] []
  unfold f_X5_knownMonth at h
  obtain ⟨ho0, h⟩ := cO_some h
  refine r_iload_n X 1 dX5_knownMonth_0 rfl rfl ?_
  refine r_istore_n X dX5_knownMonth_1 rfl (hL 2 (by decide)) (lv' := [(2, iv (x1)), (0, .ref (a0)), (1, iv (x1))]) rfl ?_
  have L2 : ∀ s : Int, lp (fun s => f_X5_knownMonth_b2 (σ) (a0) s) s = some w → V Γ (σ) 0 0 2 [(0, .ref (a0)), (2, iv (s))] [] := by
    refine lp_rule (P := fun s : Int => V Γ (σ) 0 0 2 [(0, .ref (a0)), (2, iv (s))] []) ?_
    intro s z1 h ihb1 ihe1
    obtain ⟨v2_1, es⟩ : ∃ q, q = s := ⟨s, rfl⟩
    subst es
    have h : f_X5_knownMonth_b2 (σ) (a0) v2_1 = some z1 := h
    unfold f_X5_knownMonth_b2 at h
    show V Γ σ 0 0 2 [(0, .ref (a0)), (2, iv (v2_1))] []
    refine r_aload_n X 0 dX5_knownMonth_2 rfl rfl ?_
    refine r_getA (kf := 10) X ho0.1 rfl (by decide) (by decide) (Or.inl q230) dX5_knownMonth_3 ?_
    refine r_iload_n X 1 dX5_knownMonth_6 rfl rfl ?_
    refine r_lald X ho0.1 (ho0.2 10 (by decide)) rfl rfl rfl (by decide) dX5_knownMonth_7 h (fun h => ?_)
    refine r_lconst (y := 0) X dX5_knownMonth_8 rfl ?_
    refine r_lcmp_le (tgt := 22) X dX5_knownMonth_9 dX5_knownMonth_10 (by decide) h (fun c1 h => ?_) (fun c1 h => ?_)
    · refine r_aload_n X 0 dX5_knownMonth_13 rfl rfl ?_
      refine r_iload_n X 1 dX5_knownMonth_14 rfl rfl ?_
      obtain ⟨r3, h2, h⟩ := bd_some h
      refine r_cV (Wd := 0) X (fun l D sz => w_X5_nextMonth l D sz h2) ho0.1 rfl q879 q880 q878 q108 q881 hy_X5_nextMonth rfl dX5_knownMonth_15 rfl rfl (Nat.le_of_ble_eq_true rfl) ⟨Nat.le_of_ble_eq_true rfl, Nat.le_of_ble_eq_true rfl⟩ ⟨Nat.le_of_ble_eq_true rfl, Nat.le_of_ble_eq_true rfl⟩ ?_
      refine r_istore_n X dX5_knownMonth_18 rfl (hL 2 (by decide)) (lv' := [(2, iv (r3)), (0, .ref (a0))]) rfl ?_
      refine r_goto (tgt := 2) X dX5_knownMonth_19 (by decide) ?_
      exact V.sub [1, 0] rfl (ihb1 _ (Option.some.inj h).symm)
    · have h := ex_some h ihe1
      refine r_iload_n X 1 dX5_knownMonth_22 rfl rfl ?_
      cases h
      exact r_iret X hr dX5_knownMonth_23
  exact V.sub [1, 0] rfl (L2 (x1) h)
theorem hy_X1_hasWay : yX1_hasWay.cls ≠ "java/lang/invoke/MethodHandle" ∧ yX1_hasWay.cls ≠ "java/lang/invoke/VarHandle" ∧ (parseMethodDescriptor yX1_hasWay.desc).map (fun d => d.parameters.length) = some 4 := by decide +kernel
set_option maxHeartbeats 4000000 in
theorem w_X1_hasWay (l : Launch) (D : DD) (sz : Nat) {σ : St} {a0 : Nat} {p1 : Nat} {p2 : Nat} {x3 : Int} {x4 : Int} {w : Int × St} (h : f_X1_hasWay σ a0 p1 p2 x3 x4 = some w) : Mt l yX1_hasWay cX1_hasWay 5 (some FieldType.boolean) ({ frames := 7, cells := 0, slots := 0, locals := 107 } : Room) D sz σ [.ref a0, .ref (p1), .ref (p2), iv (x3), iv (x4)] (.returned (some (iv w.1))) (w.2) 0 0 := by
  refine Mt.of (by decide +kernel) (Nat.le_of_ble_eq_true rfl) ?_
  intro Γ X hr hnl hini hnoh
  have X : Cx Γ cX1_hasWay "DayBoy" _ := X
  have hL : ∀ i, i < 5 → i < nLc Γ := fun i q => by rw [hnl]; exact q
  show V Γ σ 0 0 0 [(0, .ref (a0)), (1, .ref (p1)), (2, .ref (p2)), (3, iv (x3)), (4, iv (x4))] []
  unfold f_X1_hasWay at h
  obtain ⟨ho0, h⟩ := cO_some h
  refine r_aload_n X 1 dX1_hasWay_0 rfl rfl ?_
  refine r_iload_n X 3 dX1_hasWay_1 rfl rfl ?_
  refine r_iload X 4 dX1_hasWay_2 rfl ?_
  obtain ⟨ho2, h⟩ := cO_some h
  obtain ⟨r3, h1, h⟩ := bd_some h
  refine r_cV (Wd := 0) X (fun l D sz => w_X5_hasRows l D sz h1) ho2.1 rfl q859 q860 q858 q108 q861 hy_X5_hasRows rfl dX1_hasWay_4 rfl rfl (Nat.le_of_ble_eq_true rfl) ⟨Nat.le_of_ble_eq_true rfl, Nat.le_of_ble_eq_true rfl⟩ ⟨Nat.le_of_ble_eq_true rfl, Nat.le_of_ble_eq_true rfl⟩ ?_
  refine r_if_eq (tgt := 33) X dX1_hasWay_7 (by decide) h (fun c4 h => ?_) (fun c4 h => ?_)
  · refine r_iconst X dX1_hasWay_33 ?_
    cases h
    exact r_zret X hr (by decide) dX1_hasWay_34
  · refine r_aload_n X 2 dX1_hasWay_10 rfl rfl ?_
    refine r_aload_n X 1 dX1_hasWay_11 rfl rfl ?_
    refine r_iload_n X 3 dX1_hasWay_12 rfl rfl ?_
    obtain ⟨r7, σ8, h6, h⟩ := bd2_some h
    refine r_cV (Wd := 1) X (fun l D sz => w_X5_knownYear l D sz h6) ho2.1 rfl q863 q864 q862 q108 q865 hy_X5_knownYear rfl dX1_hasWay_13 rfl rfl (Nat.le_of_ble_eq_true rfl) ⟨Nat.le_of_ble_eq_true rfl, Nat.le_of_ble_eq_true rfl⟩ ⟨Nat.le_of_ble_eq_true rfl, Nat.le_of_ble_eq_true rfl⟩ ?_
    refine r_aload_n X 1 dX1_hasWay_16 rfl rfl ?_
    refine r_iload X 4 dX1_hasWay_17 rfl ?_
    obtain ⟨ho10, h⟩ := cO_some h
    obtain ⟨r11, h9, h⟩ := bd_some h
    refine r_cV (Wd := 2) X (fun l D sz => w_X5_knownMonth l D sz h9) ho10.1 rfl q875 q876 q874 q108 q877 hy_X5_knownMonth rfl dX1_hasWay_19 rfl rfl (Nat.le_of_ble_eq_true rfl) ⟨Nat.le_of_ble_eq_true rfl, Nat.le_of_ble_eq_true rfl⟩ ⟨Nat.le_of_ble_eq_true rfl, Nat.le_of_ble_eq_true rfl⟩ ?_
    refine r_iconst X dX1_hasWay_22 ?_
    obtain ⟨ho13, h⟩ := cO_some h
    obtain ⟨r14, h12, h⟩ := bd_some h
    refine r_cV (Wd := 0) X (fun l D sz => w_X2_has l D sz h12) ho13.1 rfl q793 q794 q792 q105 q795 hy_X2_has rfl dX1_hasWay_23 rfl rfl (Nat.le_of_ble_eq_true rfl) ⟨Nat.le_of_ble_eq_true rfl, Nat.le_of_ble_eq_true rfl⟩ ⟨Nat.le_of_ble_eq_true rfl, Nat.le_of_ble_eq_true rfl⟩ ?_
    refine r_if_eq (tgt := 33) X dX1_hasWay_26 (by decide) h (fun c15 h => ?_) (fun c15 h => ?_)
    · refine r_iconst X dX1_hasWay_33 ?_
      cases h
      exact r_zret X hr (by decide) dX1_hasWay_34
    · refine r_iconst X dX1_hasWay_29 ?_
      refine r_goto (tgt := 34) X dX1_hasWay_30 (by decide) ?_
      cases h
      exact r_zret X hr (by decide) dX1_hasWay_34
theorem hy_X1_isAnswered : yX1_isAnswered.cls ≠ "java/lang/invoke/MethodHandle" ∧ yX1_isAnswered.cls ≠ "java/lang/invoke/VarHandle" ∧ (parseMethodDescriptor yX1_isAnswered.desc).map (fun d => d.parameters.length) = some 5 := by decide +kernel
set_option maxHeartbeats 4000000 in
theorem w_X1_isAnswered (l : Launch) (D : DD) (sz : Nat) {σ : St} {a0 : Nat} {x1 : Int} {x2 : Int} {x3 : Int} {x4 : Int} {x5 : Int} {w : Int × St} (h : f_X1_isAnswered σ a0 x1 x2 x3 x4 x5 = some w) : Mt l yX1_isAnswered cX1_isAnswered 6 (some FieldType.boolean) ({ frames := 8, cells := 0, slots := 0, locals := 123 } : Room) D sz σ [.ref a0, iv (x1), iv (x2), iv (x3), iv (x4), iv (x5)] (.returned (some (iv w.1))) (w.2) 0 0 := by
  refine Mt.of (by decide +kernel) (Nat.le_of_ble_eq_true rfl) ?_
  intro Γ X hr hnl hini hnoh
  have X : Cx Γ cX1_isAnswered "DayBoy" _ := X
  have hL : ∀ i, i < 6 → i < nLc Γ := fun i q => by rw [hnl]; exact q
  show V Γ σ 0 0 0 [(0, .ref (a0)), (1, iv (x1)), (2, iv (x2)), (3, iv (x3)), (4, iv (x4)), (5, iv (x5))] []
  unfold f_X1_isAnswered at h
  obtain ⟨ho0, h⟩ := cO_some h
  refine r_aload_n X 0 dX1_isAnswered_0 rfl rfl ?_
  refine r_iload_n X 1 dX1_isAnswered_1 rfl rfl ?_
  obtain ⟨r2, h1, h⟩ := bd_some h
  refine r_cV (Wd := 0) X (fun l D sz => w_X1_isHead l D sz h1) ho0.1 rfl q852 qs27 q850 q104 q853 hy_X1_isHead rfl dX1_isAnswered_2 rfl rfl (Nat.le_of_ble_eq_true rfl) ⟨Nat.le_of_ble_eq_true rfl, Nat.le_of_ble_eq_true rfl⟩ ⟨Nat.le_of_ble_eq_true rfl, Nat.le_of_ble_eq_true rfl⟩ ?_
  refine r_if_eq (tgt := 47) X dX1_isAnswered_5 (by decide) h (fun c3 h => ?_) (fun c3 h => ?_)
  · refine r_iconst X dX1_isAnswered_47 ?_
    cases h
    exact r_zret X hr (by decide) dX1_isAnswered_48
  · refine r_aload_n X 0 dX1_isAnswered_8 rfl rfl ?_
    refine r_iload_n X 2 dX1_isAnswered_9 rfl rfl ?_
    refine r_iload_n X 3 dX1_isAnswered_10 rfl rfl ?_
    refine r_iload X 4 dX1_isAnswered_11 rfl ?_
    refine r_iload X 5 dX1_isAnswered_13 rfl ?_
    obtain ⟨r6, h5, h⟩ := bd_some h
    refine r_cV (Wd := 0) X (fun l D sz => w_X1_isDate l D sz h5) ho0.1 rfl q790 qs24 q788 q104 q791 hy_X1_isDate rfl dX1_isAnswered_15 rfl rfl (Nat.le_of_ble_eq_true rfl) ⟨Nat.le_of_ble_eq_true rfl, Nat.le_of_ble_eq_true rfl⟩ ⟨Nat.le_of_ble_eq_true rfl, Nat.le_of_ble_eq_true rfl⟩ ?_
    refine r_if_eq (tgt := 47) X dX1_isAnswered_18 (by decide) h (fun c7 h => ?_) (fun c7 h => ?_)
    · refine r_iconst X dX1_isAnswered_47 ?_
      cases h
      exact r_zret X hr (by decide) dX1_isAnswered_48
    · refine r_aload_n X 0 dX1_isAnswered_21 rfl rfl ?_
      refine r_aload_n X 0 dX1_isAnswered_22 rfl rfl ?_
      refine r_getA (kf := 5) X ho0.1 rfl (by decide) (by decide) (Or.inl q311) dX1_isAnswered_23 ?_
      refine r_iload_n X 1 dX1_isAnswered_26 rfl rfl ?_
      refine r_aald X ho0.1 (ho0.2 5 (by decide)) rfl rfl (by decide) rfl (by decide) dX1_isAnswered_27 h (fun b9 h => ?_)
      refine r_aload_n X 0 dX1_isAnswered_28 rfl rfl ?_
      refine r_getA (kf := 4) X ho0.1 rfl (by decide) (by decide) (Or.inl q310) dX1_isAnswered_29 ?_
      refine r_iload_n X 2 dX1_isAnswered_32 rfl rfl ?_
      refine r_aald X ho0.1 (ho0.2 4 (by decide)) rfl rfl (by decide) rfl (by decide) dX1_isAnswered_33 h (fun b10 h => ?_)
      refine r_iload_n X 3 dX1_isAnswered_34 rfl rfl ?_
      refine r_iload X 4 dX1_isAnswered_35 rfl ?_
      obtain ⟨r12, σ13, h11, h⟩ := bd2_some h
      refine r_cV (Wd := 0) X (fun l D sz => w_X1_hasWay l D sz h11) ho0.1 rfl q856 qs28 q854 q104 q857 hy_X1_hasWay rfl dX1_isAnswered_37 rfl rfl (Nat.le_of_ble_eq_true rfl) ⟨Nat.le_of_ble_eq_true rfl, Nat.le_of_ble_eq_true rfl⟩ ⟨Nat.le_of_ble_eq_true rfl, Nat.le_of_ble_eq_true rfl⟩ ?_
      refine r_if_eq (tgt := 47) X dX1_isAnswered_40 (by decide) h (fun c14 h => ?_) (fun c14 h => ?_)
      · refine r_iconst X dX1_isAnswered_47 ?_
        cases h
        exact r_zret X hr (by decide) dX1_isAnswered_48
      · refine r_iconst X dX1_isAnswered_43 ?_
        refine r_goto (tgt := 48) X dX1_isAnswered_44 (by decide) ?_
        cases h
        exact r_zret X hr (by decide) dX1_isAnswered_48
theorem hy_X5_steps : yX5_steps.cls ≠ "java/lang/invoke/MethodHandle" ∧ yX5_steps.cls ≠ "java/lang/invoke/VarHandle" ∧ (parseMethodDescriptor yX5_steps.desc).map (fun d => d.parameters.length) = some 1 := by decide +kernel
set_option maxHeartbeats 4000000 in
theorem w_X5_steps (l : Launch) (D : DD) (sz : Nat) {σ : St} {a0 : Nat} {x1 : Int} {w : Int} (h : f_X5_steps σ a0 x1 = some w) : Mt l yX5_steps cX5_steps 2 (some FieldType.int) ({ frames := 0, cells := 0, slots := 0, locals := 0 } : Room) D sz σ [.ref a0, iv (x1)] (.returned (some (iv w))) (σ) 0 0 := by
  refine Mt.of (by decide +kernel) (Nat.le_of_ble_eq_true rfl) ?_
  intro Γ X hr hnl hini hnoh
  have X : Cx Γ cX5_steps "DayBoy$Head" _ := X
  have hL : ∀ i, i < 2 → i < nLc Γ := fun i q => by rw [hnl]; exact q
  show V Γ σ 0 0 0 [(0, .ref (a0)), (1, iv (x1))] []
  unfold f_X5_steps at h
  obtain ⟨ho0, h⟩ := cO_some h
  refine r_aload_n X 0 dX5_steps_0 rfl rfl ?_
  refine r_getA (kf := 9) X ho0.1 rfl (by decide) (by decide) (Or.inl q228) dX5_steps_1 ?_
  refine r_iload_n X 1 dX5_steps_4 rfl rfl ?_
  refine r_lald X ho0.1 (ho0.2 9 (by decide)) rfl rfl rfl (by decide) dX5_steps_5 h (fun h => ?_)
  refine r_ldc2 (z := 20000) X q741 dX5_steps_6 rfl ?_
  obtain ⟨c1, h⟩ := ck_some h
  refine r_lrem X dX5_steps_9 c1 (by decide) (by decide) ?_
  refine r_l2i X dX5_steps_10 ?_
  cases h
  exact r_iret X hr dX5_steps_11
theorem hy_X5_monthSteps : yX5_monthSteps.cls ≠ "java/lang/invoke/MethodHandle" ∧ yX5_monthSteps.cls ≠ "java/lang/invoke/VarHandle" ∧ (parseMethodDescriptor yX5_monthSteps.desc).map (fun d => d.parameters.length) = some 1 := by decide +kernel
set_option maxHeartbeats 4000000 in
theorem w_X5_monthSteps (l : Launch) (D : DD) (sz : Nat) {σ : St} {a0 : Nat} {x1 : Int} {w : Int} (h : f_X5_monthSteps σ a0 x1 = some w) : Mt l yX5_monthSteps cX5_monthSteps 2 (some FieldType.int) ({ frames := 0, cells := 0, slots := 0, locals := 0 } : Room) D sz σ [.ref a0, iv (x1)] (.returned (some (iv w))) (σ) 0 0 := by
  refine Mt.of (by decide +kernel) (Nat.le_of_ble_eq_true rfl) ?_
  intro Γ X hr hnl hini hnoh
  have X : Cx Γ cX5_monthSteps "DayBoy$Head" _ := X
  have hL : ∀ i, i < 2 → i < nLc Γ := fun i q => by rw [hnl]; exact q
  show V Γ σ 0 0 0 [(0, .ref (a0)), (1, iv (x1))] []
  unfold f_X5_monthSteps at h
  obtain ⟨ho0, h⟩ := cO_some h
  refine r_aload_n X 0 dX5_monthSteps_0 rfl rfl ?_
  refine r_getA (kf := 10) X ho0.1 rfl (by decide) (by decide) (Or.inl q230) dX5_monthSteps_1 ?_
  refine r_iload_n X 1 dX5_monthSteps_4 rfl rfl ?_
  refine r_lald X ho0.1 (ho0.2 10 (by decide)) rfl rfl rfl (by decide) dX5_monthSteps_5 h (fun h => ?_)
  refine r_ldc2 (z := 20000) X q741 dX5_monthSteps_6 rfl ?_
  obtain ⟨c1, h⟩ := ck_some h
  refine r_lrem X dX5_monthSteps_9 c1 (by decide) (by decide) ?_
  refine r_l2i X dX5_monthSteps_10 ?_
  cases h
  exact r_iret X hr dX5_monthSteps_11
theorem hy_X1_way : yX1_way.cls ≠ "java/lang/invoke/MethodHandle" ∧ yX1_way.cls ≠ "java/lang/invoke/VarHandle" ∧ (parseMethodDescriptor yX1_way.desc).map (fun d => d.parameters.length) = some 7 := by decide +kernel
set_option maxHeartbeats 4000000 in
theorem w_X1_way (l : Launch) (D : DD) (sz : Nat) {σ : St} {a0 : Nat} {x1 : Int} {x2 : Int} {x3 : Int} {x4 : Int} {x5 : Int} {x6 : Int} {x7 : Int} {w : Int × St} (h : f_X1_way σ a0 x1 x2 x3 x4 x5 x6 x7 = some w) : Mt l yX1_way cX1_way 12 (some FieldType.int) ({ frames := 9, cells := 0, slots := 0, locals := 140 } : Room) D sz σ [.ref a0, iv (x1), iv (x2), iv (x3), iv (x4), iv (x5), iv (x6), iv (x7)] (.returned (some (iv w.1))) (w.2) 0 0 := by
  refine Mt.of (by decide +kernel) (Nat.le_of_ble_eq_true rfl) ?_
  intro Γ X hr hnl hini hnoh
  have X : Cx Γ cX1_way "DayBoy" _ := X
  have hL : ∀ i, i < 12 → i < nLc Γ := fun i q => by rw [hnl]; exact q
  show V Γ σ 0 0 0 [(0, .ref (a0)), (1, iv (x1)), (2, iv (x2)), (3, iv (x3)), (4, iv (x4)), (5, iv (x5)), (6, iv (x6)), (7, iv (x7))] []
  unfold f_X1_way at h
  obtain ⟨ho0, h⟩ := cO_some h
  have J93 : ∀ (v8_j93 : Nat) (t0_j93 : Int) (σ_j93 : St), f_X1_way_j93 (x6) (x7) v8_j93 t0_j93 σ_j93 = some w → V Γ σ_j93 0 0 93 [(6, iv (x6)), (7, iv (x7)), (8, .ref (v8_j93))] [iv (t0_j93)] := by
    intro v8_j93 t0_j93 σ_j93 h
    unfold f_X1_way_j93 at h
    refine r_istore X dX1_way_93 (hL 10 (by decide)) (lv' := [(10, iv (t0_j93)), (6, iv (x6)), (7, iv (x7)), (8, .ref (v8_j93))]) rfl ?_
    refine r_iconst X dX1_way_95 ?_
    refine r_istore X dX1_way_96 (hL 11 (by decide)) (lv' := [(11, iv (0)), (10, iv (t0_j93)), (6, iv (x6)), (7, iv (x7)), (8, .ref (v8_j93))]) rfl ?_
    have L98 : ∀ s : Int × Int, lp (fun s => f_X1_way_b98 (σ_j93) (x6) (x7) (v8_j93) s.1 s.2) s = some w → V Γ (σ_j93) 0 0 98 [(6, iv (x6)), (7, iv (x7)), (8, .ref (v8_j93)), (10, iv (s.1)), (11, iv (s.2))] [] := by
      refine lp_rule (P := fun s : Int × Int => V Γ (σ_j93) 0 0 98 [(6, iv (x6)), (7, iv (x7)), (8, .ref (v8_j93)), (10, iv (s.1)), (11, iv (s.2))] []) ?_
      intro s z1 h ihb1 ihe1
      obtain ⟨v10_1, v11_1⟩ := s
      have h : f_X1_way_b98 (σ_j93) (x6) (x7) (v8_j93) v10_1 v11_1 = some z1 := h
      unfold f_X1_way_b98 at h
      show V Γ σ_j93 0 0 98 [(6, iv (x6)), (7, iv (x7)), (8, .ref (v8_j93)), (10, iv (v10_1)), (11, iv (v11_1))] []
      refine r_iload X 4 dX1_way_98 rfl ?_
      refine r_iload X 1 dX1_way_100 rfl ?_
      refine r_icmp_ge (tgt := 135) X dX1_way_102 (by decide) h (fun c1 h => ?_) (fun c1 h => ?_)
      · refine r_iload X 0 dX1_way_105 rfl ?_
        refine r_if_ne (tgt := 120) X dX1_way_107 (by decide) h (fun c2 h => ?_) (fun c2 h => ?_)
        · refine r_aload X 2 dX1_way_110 rfl ?_
          refine r_iload X 3 dX1_way_112 rfl ?_
          obtain ⟨ho4, h⟩ := cO_some h
          obtain ⟨r5, h3, h⟩ := bd_some h
          refine r_cV (Wd := 0) X (fun l D sz => w_X5_nextYear l D sz h3) ho4.1 rfl q867 q868 q890 q108 q869 hy_X5_nextYear rfl dX1_way_114 rfl rfl (Nat.le_of_ble_eq_true rfl) ⟨Nat.le_of_ble_eq_true rfl, Nat.le_of_ble_eq_true rfl⟩ ⟨Nat.le_of_ble_eq_true rfl, Nat.le_of_ble_eq_true rfl⟩ ?_
          refine r_goto (tgt := 127) X dX1_way_117 (by decide) ?_
          refine r_istore X dX1_way_127 (hL 10 (by decide)) (lv' := [(10, iv (r5)), (6, iv (x6)), (7, iv (x7)), (8, .ref (v8_j93)), (11, iv (v11_1))]) rfl ?_
          refine r_iinc X 4 dX1_way_129 rfl (hL 11 (by decide)) (lv' := [(11, iv ((v11_1 + 1))), (10, iv (r5)), (6, iv (x6)), (7, iv (x7)), (8, .ref (v8_j93))]) rfl ?_
          refine r_goto (tgt := 98) X dX1_way_132 (by decide) ?_
          exact V.sub [2, 3, 4, 1, 0] rfl (ihb1 _ (Option.some.inj h).symm)
        · refine r_aload X 2 dX1_way_120 rfl ?_
          refine r_iload X 3 dX1_way_122 rfl ?_
          obtain ⟨ho7, h⟩ := cO_some h
          obtain ⟨r8, h6, h⟩ := bd_some h
          refine r_cV (Wd := 0) X (fun l D sz => w_X5_nextMonth l D sz h6) ho7.1 rfl q879 q880 q891 q108 q881 hy_X5_nextMonth rfl dX1_way_124 rfl rfl (Nat.le_of_ble_eq_true rfl) ⟨Nat.le_of_ble_eq_true rfl, Nat.le_of_ble_eq_true rfl⟩ ⟨Nat.le_of_ble_eq_true rfl, Nat.le_of_ble_eq_true rfl⟩ ?_
          refine r_istore X dX1_way_127 (hL 10 (by decide)) (lv' := [(10, iv (r8)), (6, iv (x6)), (7, iv (x7)), (8, .ref (v8_j93)), (11, iv (v11_1))]) rfl ?_
          refine r_iinc X 4 dX1_way_129 rfl (hL 11 (by decide)) (lv' := [(11, iv ((v11_1 + 1))), (10, iv (r8)), (6, iv (x6)), (7, iv (x7)), (8, .ref (v8_j93))]) rfl ?_
          refine r_goto (tgt := 98) X dX1_way_132 (by decide) ?_
          exact V.sub [2, 3, 4, 1, 0] rfl (ihb1 _ (Option.some.inj h).symm)
      · have h := ex_some h ihe1
        refine r_iload X 3 dX1_way_135 rfl ?_
        cases h
        exact r_iret X hr dX1_way_137
    exact V.sub [2, 3, 4, 1, 0] rfl (L98 (t0_j93, 0) h)
  have J56 : ∀ (v8_j56 : Nat) (t0_j56 : Int) (σ_j56 : St), f_X1_way_j56 (x3) (x4) (x6) (x7) v8_j56 t0_j56 σ_j56 = some w → V Γ σ_j56 0 0 56 [(3, iv (x3)), (4, iv (x4)), (6, iv (x6)), (7, iv (x7)), (8, .ref (v8_j56))] [iv (t0_j56)] := by
    intro v8_j56 t0_j56 σ_j56 h
    unfold f_X1_way_j56 at h
    refine r_istore X dX1_way_56 (hL 9 (by decide)) (lv' := [(9, iv (t0_j56)), (3, iv (x3)), (4, iv (x4)), (6, iv (x6)), (7, iv (x7)), (8, .ref (v8_j56))]) rfl ?_
    refine r_iload X 4 dX1_way_58 rfl ?_
    refine r_iconst X dX1_way_60 ?_
    refine r_icmp_ne (tgt := 67) X dX1_way_61 (by decide) h (fun c9 h => ?_) (fun c9 h => ?_)
    · refine r_iload X 0 dX1_way_64 rfl ?_
      cases h
      exact r_iret X hr dX1_way_66
    · refine r_iload X 4 dX1_way_67 rfl ?_
      obtain ⟨c10, h⟩ := ck_some h
      refine r_i2l X dX1_way_69 c10 ?_
      refine r_lconst (y := 0) X dX1_way_70 rfl ?_
      refine r_iload X 0 dX1_way_71 rfl ?_
      obtain ⟨c11, h⟩ := ck_some h
      refine r_i2l X dX1_way_73 c11 ?_
      obtain ⟨r13, h12, h⟩ := bd_some h
      refine r_cS (Wd := 0) X (fun l D sz => w_X1_isIn l D sz h12) q414 q413 q104 q415 hy_X1_isIn rfl dX1_way_74 rfl rfl (Nat.le_of_ble_eq_true rfl) ⟨Nat.le_of_ble_eq_true rfl, Nat.le_of_ble_eq_true rfl⟩ ⟨Nat.le_of_ble_eq_true rfl, Nat.le_of_ble_eq_true rfl⟩ ?_
      refine r_if_ne (tgt := 82) X dX1_way_77 (by decide) h (fun c14 h => ?_) (fun c14 h => ?_)
      · refine r_iconst X dX1_way_80 ?_
        cases h
        exact r_iret X hr dX1_way_81
      · refine r_iload X 3 dX1_way_82 rfl ?_
        refine r_if_ne (tgt := 91) X dX1_way_84 (by decide) h (fun c15 h => ?_) (fun c15 h => ?_)
        · refine r_iload_n X 1 dX1_way_87 rfl rfl ?_
          refine r_goto (tgt := 93) X dX1_way_88 (by decide) ?_
          exact V.sub [3, 4, 5] rfl (J93 (v8_j56) (x3) (σ_j56) h)
        · refine r_iload X 2 dX1_way_91 rfl ?_
          exact V.sub [3, 4, 5] rfl (J93 (v8_j56) (x4) (σ_j56) h)
  refine r_aload_n X 0 dX1_way_0 rfl rfl ?_
  refine r_iload_n X 1 dX1_way_1 rfl rfl ?_
  refine r_iload_n X 2 dX1_way_2 rfl rfl ?_
  refine r_iload_n X 3 dX1_way_3 rfl rfl ?_
  refine r_iload X 4 dX1_way_4 rfl ?_
  refine r_iload X 5 dX1_way_6 rfl ?_
  obtain ⟨r17, σ18, h16, h⟩ := bd2_some h
  refine r_cV (Wd := 0) X (fun l D sz => w_X1_isAnswered l D sz h16) ho0.1 rfl q848 qs26 q846 q104 q849 hy_X1_isAnswered rfl dX1_way_8 rfl rfl (Nat.le_of_ble_eq_true rfl) ⟨Nat.le_of_ble_eq_true rfl, Nat.le_of_ble_eq_true rfl⟩ ⟨Nat.le_of_ble_eq_true rfl, Nat.le_of_ble_eq_true rfl⟩ ?_
  refine r_if_eq (tgt := 25) X dX1_way_11 (by decide) h (fun c19 h => ?_) (fun c19 h => ?_)
  · refine r_iconst X dX1_way_25 ?_
    cases h
    exact r_iret X hr dX1_way_26
  · refine r_iload X 6 dX1_way_14 rfl ?_
    obtain ⟨c20, h⟩ := ck_some h
    refine r_i2l X dX1_way_16 c20 ?_
    refine r_lconst (y := 0) X dX1_way_17 rfl ?_
    refine r_lconst (y := 1) X dX1_way_18 rfl ?_
    obtain ⟨r22, h21, h⟩ := bd_some h
    refine r_cS (Wd := 0) X (fun l D sz => w_X1_isIn l D sz h21) q414 q413 q104 q415 hy_X1_isIn rfl dX1_way_19 rfl rfl (Nat.le_of_ble_eq_true rfl) ⟨Nat.le_of_ble_eq_true rfl, Nat.le_of_ble_eq_true rfl⟩ ⟨Nat.le_of_ble_eq_true rfl, Nat.le_of_ble_eq_true rfl⟩ ?_
    refine r_if_ne (tgt := 27) X dX1_way_22 (by decide) h (fun c23 h => ?_) (fun c23 h => ?_)
    · refine r_iconst X dX1_way_25 ?_
      cases h
      exact r_iret X hr dX1_way_26
    · refine r_aload_n X 0 dX1_way_27 rfl rfl ?_
      obtain ⟨ho24, h⟩ := cO_some h
      refine r_getA (kf := 5) X ho24.1 rfl (by decide) (by decide) (Or.inl q311) dX1_way_28 ?_
      refine r_iload_n X 1 dX1_way_31 rfl rfl ?_
      refine r_aald X ho24.1 (ho24.2 5 (by decide)) rfl rfl (by decide) rfl (by decide) dX1_way_32 h (fun b25 h => ?_)
      refine r_astore X dX1_way_33 (hL 8 (by decide)) (lv' := [(8, .ref (b25)), (0, .ref (a0)), (1, iv (x1)), (2, iv (x2)), (3, iv (x3)), (4, iv (x4)), (5, iv (x5)), (6, iv (x6)), (7, iv (x7))]) rfl ?_
      refine r_iload X 7 dX1_way_35 rfl ?_
      refine r_if_ne (tgt := 49) X dX1_way_37 (by decide) h (fun c26 h => ?_) (fun c26 h => ?_)
      · refine r_aload X 0 dX1_way_40 rfl ?_
        refine r_iload_n X 4 dX1_way_42 rfl rfl ?_
        obtain ⟨ho28, h⟩ := cO_some h
        obtain ⟨r29, h27, h⟩ := bd_some h
        refine r_cV (Wd := 0) X (fun l D sz => w_X5_steps l D sz h27) ho28.1 rfl q883 q884 q882 q108 q885 hy_X5_steps rfl dX1_way_43 rfl rfl (Nat.le_of_ble_eq_true rfl) ⟨Nat.le_of_ble_eq_true rfl, Nat.le_of_ble_eq_true rfl⟩ ⟨Nat.le_of_ble_eq_true rfl, Nat.le_of_ble_eq_true rfl⟩ ?_
        refine r_goto (tgt := 56) X dX1_way_46 (by decide) ?_
        exact V.sub [4, 5, 7, 8, 0] rfl (J56 (b25) (r29) (σ18) h)
      · refine r_aload X 0 dX1_way_49 rfl ?_
        refine r_iload X 5 dX1_way_51 rfl ?_
        obtain ⟨ho31, h⟩ := cO_some h
        obtain ⟨r32, h30, h⟩ := bd_some h
        refine r_cV (Wd := 0) X (fun l D sz => w_X5_monthSteps l D sz h30) ho31.1 rfl q887 q888 q886 q108 q889 hy_X5_monthSteps rfl dX1_way_53 rfl rfl (Nat.le_of_ble_eq_true rfl) ⟨Nat.le_of_ble_eq_true rfl, Nat.le_of_ble_eq_true rfl⟩ ⟨Nat.le_of_ble_eq_true rfl, Nat.le_of_ble_eq_true rfl⟩ ?_
        exact V.sub [4, 5, 7, 8, 0] rfl (J56 (b25) (r32) (σ18) h)
theorem hy_X1_answerOf : yX1_answerOf.cls ≠ "java/lang/invoke/MethodHandle" ∧ yX1_answerOf.cls ≠ "java/lang/invoke/VarHandle" ∧ (parseMethodDescriptor yX1_answerOf.desc).map (fun d => d.parameters.length) = some 5 := by decide +kernel
set_option maxHeartbeats 4000000 in
theorem w_X1_answerOf (l : Launch) (D : DD) (sz : Nat) {σ : St} {p0 : Nat} {p1 : Nat} {x2 : Int} {x3 : Int} {x4 : Int} {w : Int × St} (h : f_X1_answerOf σ p0 p1 x2 x3 x4 = some w) : Mt l yX1_answerOf cX1_answerOf 5 (some FieldType.int) ({ frames := 8, cells := 0, slots := 0, locals := 122 } : Room) D sz σ [.ref (p0), .ref (p1), iv (x2), iv (x3), iv (x4)] (.returned (some (iv w.1))) (w.2) 0 0 := by
  refine Mt.of (by decide +kernel) (Nat.le_of_ble_eq_true rfl) ?_
  intro Γ X hr hnl hini hnoh
  have X : Cx Γ cX1_answerOf "DayBoy" _ := X
  have hL : ∀ i, i < 5 → i < nLc Γ := fun i q => by rw [hnl]; exact q
  show V Γ σ 0 0 0 [(0, .ref (p0)), (1, .ref (p1)), (2, iv (x2)), (3, iv (x3)), (4, iv (x4))] []
  unfold f_X1_answerOf at h
  refine r_aload_n X 1 dX1_answerOf_0 rfl rfl ?_
  refine r_aload_n X 0 dX1_answerOf_1 rfl rfl ?_
  refine r_iload_n X 2 dX1_answerOf_2 rfl rfl ?_
  obtain ⟨ho2, h⟩ := cO_some h
  obtain ⟨r3, σ4, h1, h⟩ := bd2_some h
  refine r_cV (Wd := 1) X (fun l D sz => w_X5_knownYear l D sz h1) ho2.1 rfl q863 q864 q862 q108 q865 hy_X5_knownYear rfl dX1_answerOf_3 rfl rfl (Nat.le_of_ble_eq_true rfl) ⟨Nat.le_of_ble_eq_true rfl, Nat.le_of_ble_eq_true rfl⟩ ⟨Nat.le_of_ble_eq_true rfl, Nat.le_of_ble_eq_true rfl⟩ ?_
  refine r_aload_n X 0 dX1_answerOf_6 rfl rfl ?_
  refine r_iload_n X 3 dX1_answerOf_7 rfl rfl ?_
  obtain ⟨ho6, h⟩ := cO_some h
  obtain ⟨r7, h5, h⟩ := bd_some h
  refine r_cV (Wd := 2) X (fun l D sz => w_X5_knownMonth l D sz h5) ho6.1 rfl q875 q876 q874 q108 q877 hy_X5_knownMonth rfl dX1_answerOf_8 rfl rfl (Nat.le_of_ble_eq_true rfl) ⟨Nat.le_of_ble_eq_true rfl, Nat.le_of_ble_eq_true rfl⟩ ⟨Nat.le_of_ble_eq_true rfl, Nat.le_of_ble_eq_true rfl⟩ ?_
  refine r_iconst X dX1_answerOf_11 ?_
  obtain ⟨ho9, h⟩ := cO_some h
  obtain ⟨r10, h8, h⟩ := bd_some h
  refine r_cV (Wd := 0) X (fun l D sz => w_X2_week l D sz h8) ho9.1 rfl q839 q840 q899 q105 q841 hy_X2_week rfl dX1_answerOf_12 rfl rfl (Nat.le_of_ble_eq_true rfl) ⟨Nat.le_of_ble_eq_true rfl, Nat.le_of_ble_eq_true rfl⟩ ⟨Nat.le_of_ble_eq_true rfl, Nat.le_of_ble_eq_true rfl⟩ ?_
  refine r_iload X 4 dX1_answerOf_15 rfl ?_
  refine r_iadd X dX1_answerOf_17 ?_
  refine r_iconst X dX1_answerOf_18 ?_
  refine r_isub X dX1_answerOf_19 ?_
  refine r_bipush X dX1_answerOf_20 (by decide) ?_
  obtain ⟨c11, h⟩ := ck_some h
  refine r_irem X dX1_answerOf_22 c11 (by decide) (by decide) ?_
  cases h
  exact r_iret X hr dX1_answerOf_23
theorem hy_X1_tenthsOf : yX1_tenthsOf.cls ≠ "java/lang/invoke/MethodHandle" ∧ yX1_tenthsOf.cls ≠ "java/lang/invoke/VarHandle" ∧ (parseMethodDescriptor yX1_tenthsOf.desc).map (fun d => d.parameters.length) = some 5 := by decide +kernel
set_option maxHeartbeats 4000000 in
theorem w_X1_tenthsOf (l : Launch) (D : DD) (sz : Nat) {σ : St} {p0 : Nat} {p1 : Nat} {x2 : Int} {x3 : Int} {x4 : Int} {w : Int × St} (h : f_X1_tenthsOf σ p0 p1 x2 x3 x4 = some w) : Mt l yX1_tenthsOf cX1_tenthsOf 6 (some FieldType.int) ({ frames := 7, cells := 0, slots := 0, locals := 108 } : Room) D sz σ [.ref (p0), .ref (p1), iv (x2), iv (x3), iv (x4)] (.returned (some (iv w.1))) (w.2) 0 0 := by
  refine Mt.of (by decide +kernel) (Nat.le_of_ble_eq_true rfl) ?_
  intro Γ X hr hnl hini hnoh
  have X : Cx Γ cX1_tenthsOf "DayBoy" _ := X
  have hL : ∀ i, i < 6 → i < nLc Γ := fun i q => by rw [hnl]; exact q
  show V Γ σ 0 0 0 [(0, .ref (p0)), (1, .ref (p1)), (2, iv (x2)), (3, iv (x3)), (4, iv (x4))] []
  unfold f_X1_tenthsOf at h
  refine r_aload_n X 0 dX1_tenthsOf_0 rfl rfl ?_
  obtain ⟨ho1, h⟩ := cO_some h
  refine r_getA (kf := 7) X ho1.1 rfl (by decide) (by decide) (Or.inr ⟨_, q224⟩) dX1_tenthsOf_1 ?_
  refine r_iconst X dX1_tenthsOf_4 ?_
  refine r_iald X ho1.1 (ho1.2 7 (by decide)) rfl rfl rfl (by decide) dX1_tenthsOf_5 h (fun h => ?_)
  refine r_aload_n X 0 dX1_tenthsOf_6 rfl rfl ?_
  refine r_getA (kf := 9) X ho1.1 rfl (by decide) (by decide) (Or.inr ⟨_, q229⟩) dX1_tenthsOf_7 ?_
  refine r_iload_n X 2 dX1_tenthsOf_10 rfl rfl ?_
  refine r_lald X ho1.1 (ho1.2 9 (by decide)) rfl rfl rfl (by decide) dX1_tenthsOf_11 h (fun h => ?_)
  refine r_ldc2 (z := 20000) X q903 dX1_tenthsOf_12 rfl ?_
  obtain ⟨c2, h⟩ := ck_some h
  refine r_ldiv X dX1_tenthsOf_15 c2 (by decide) (by decide) ?_
  refine r_l2i X dX1_tenthsOf_16 ?_
  refine r_iadd X dX1_tenthsOf_17 ?_
  refine r_aload_n X 0 dX1_tenthsOf_18 rfl rfl ?_
  refine r_getA (kf := 10) X ho1.1 rfl (by decide) (by decide) (Or.inr ⟨_, q231⟩) dX1_tenthsOf_19 ?_
  refine r_iload_n X 3 dX1_tenthsOf_22 rfl rfl ?_
  refine r_lald X ho1.1 (ho1.2 10 (by decide)) rfl rfl rfl (by decide) dX1_tenthsOf_23 h (fun h => ?_)
  refine r_ldc2 (z := 20000) X q903 dX1_tenthsOf_24 rfl ?_
  obtain ⟨c3, h⟩ := ck_some h
  refine r_ldiv X dX1_tenthsOf_27 c3 (by decide) (by decide) ?_
  refine r_l2i X dX1_tenthsOf_28 ?_
  refine r_iadd X dX1_tenthsOf_29 ?_
  refine r_aload_n X 0 dX1_tenthsOf_30 rfl rfl ?_
  refine r_getA (kf := 7) X ho1.1 rfl (by decide) (by decide) (Or.inr ⟨_, q224⟩) dX1_tenthsOf_31 ?_
  refine r_iconst X dX1_tenthsOf_34 ?_
  refine r_iald X ho1.1 (ho1.2 7 (by decide)) rfl rfl rfl (by decide) dX1_tenthsOf_35 h (fun h => ?_)
  refine r_iload X 4 dX1_tenthsOf_36 rfl ?_
  refine r_iconst X dX1_tenthsOf_38 ?_
  refine r_isub X dX1_tenthsOf_39 ?_
  refine r_bipush X dX1_tenthsOf_40 (by decide) ?_
  obtain ⟨c4, h⟩ := ck_some h
  refine r_idiv X dX1_tenthsOf_42 c4 (by decide) (by decide) ?_
  refine r_imul X dX1_tenthsOf_43 ?_
  refine r_iadd X dX1_tenthsOf_44 ?_
  refine r_aload_n X 0 dX1_tenthsOf_45 rfl rfl ?_
  refine r_getA (kf := 7) X ho1.1 rfl (by decide) (by decide) (Or.inr ⟨_, q224⟩) dX1_tenthsOf_46 ?_
  refine r_iconst X dX1_tenthsOf_49 ?_
  refine r_iald X ho1.1 (ho1.2 7 (by decide)) rfl rfl rfl (by decide) dX1_tenthsOf_50 h (fun h => ?_)
  refine r_iload X 4 dX1_tenthsOf_51 rfl ?_
  refine r_iconst X dX1_tenthsOf_53 ?_
  refine r_isub X dX1_tenthsOf_54 ?_
  refine r_bipush X dX1_tenthsOf_55 (by decide) ?_
  obtain ⟨c5, h⟩ := ck_some h
  refine r_irem X dX1_tenthsOf_57 c5 (by decide) (by decide) ?_
  refine r_imul X dX1_tenthsOf_58 ?_
  refine r_iadd X dX1_tenthsOf_59 ?_
  refine r_istore X dX1_tenthsOf_60 (hL 5 (by decide)) (lv' := [(5, iv ((((((gI (σ) (p0) 7 (2)) + (Int.tdiv ((gJ (σ) (p0) 9 (x2))) (20000))) + (Int.tdiv ((gJ (σ) (p0) 10 (x3))) (20000))) + ((gI (σ) (p0) 7 (0)) * (Int.tdiv ((x4 - 1)) (7)))) + ((gI (σ) (p0) 7 (1)) * (Int.tmod ((x4 - 1)) (7)))))), (0, .ref (p0)), (1, .ref (p1)), (2, iv (x2)), (3, iv (x3)), (4, iv (x4))]) rfl ?_
  refine r_iload X 0 dX1_tenthsOf_62 rfl ?_
  refine r_aload_n X 2 dX1_tenthsOf_64 rfl rfl ?_
  refine r_aload_n X 1 dX1_tenthsOf_65 rfl rfl ?_
  refine r_iload_n X 3 dX1_tenthsOf_66 rfl rfl ?_
  obtain ⟨r7, σ8, h6, h⟩ := bd2_some h
  refine r_cV (Wd := 2) X (fun l D sz => w_X5_knownYear l D sz h6) ho1.1 rfl q863 q864 q862 q108 q865 hy_X5_knownYear rfl dX1_tenthsOf_67 rfl rfl (Nat.le_of_ble_eq_true rfl) ⟨Nat.le_of_ble_eq_true rfl, Nat.le_of_ble_eq_true rfl⟩ ⟨Nat.le_of_ble_eq_true rfl, Nat.le_of_ble_eq_true rfl⟩ ?_
  refine r_iconst X dX1_tenthsOf_70 ?_
  refine r_bipush X dX1_tenthsOf_71 (by decide) ?_
  obtain ⟨ho10, h⟩ := cO_some h
  obtain ⟨r11, h9, h⟩ := bd_some h
  refine r_cV (Wd := 1) X (fun l D sz => w_X2_has l D sz h9) ho10.1 rfl q793 q794 q792 q105 q795 hy_X2_has rfl dX1_tenthsOf_73 rfl rfl (Nat.le_of_ble_eq_true rfl) ⟨Nat.le_of_ble_eq_true rfl, Nat.le_of_ble_eq_true rfl⟩ ⟨Nat.le_of_ble_eq_true rfl, Nat.le_of_ble_eq_true rfl⟩ ?_
  refine r_if_eq (tgt := 88) X dX1_tenthsOf_76 (by decide) h (fun c12 h => ?_) (fun c12 h => ?_)
  · refine r_iconst X dX1_tenthsOf_88 ?_
    refine r_iadd X dX1_tenthsOf_89 ?_
    cases h
    exact r_iret X hr dX1_tenthsOf_90
  · refine r_aload_n X 1 dX1_tenthsOf_79 rfl rfl ?_
    obtain ⟨ho13, h⟩ := cO_some h
    refine r_getA (kf := 7) X ho13.1 rfl (by decide) (by decide) (Or.inr ⟨_, q224⟩) dX1_tenthsOf_80 ?_
    refine r_iconst X dX1_tenthsOf_83 ?_
    refine r_iald X ho13.1 (ho13.2 7 (by decide)) rfl rfl rfl (by decide) dX1_tenthsOf_84 h (fun h => ?_)
    refine r_goto (tgt := 89) X dX1_tenthsOf_85 (by decide) ?_
    refine r_iadd X dX1_tenthsOf_89 ?_
    cases h
    exact r_iret X hr dX1_tenthsOf_90
theorem hy_X1_slip : yX1_slip.cls ≠ "java/lang/invoke/MethodHandle" ∧ yX1_slip.cls ≠ "java/lang/invoke/VarHandle" ∧ (parseMethodDescriptor yX1_slip.desc).map (fun d => d.parameters.length) = some 2 := by decide +kernel
set_option maxHeartbeats 4000000 in
theorem w_X1_slip (l : Launch) (D : DD) (sz : Nat) {σ : St} {x0 : Int} {x1 : Int} {w : Int} (h : f_X1_slip σ x0 x1 = some w) : Mt l yX1_slip cX1_slip 2 (some FieldType.int) ({ frames := 0, cells := 0, slots := 0, locals := 0 } : Room) D sz σ [iv (x0), iv (x1)] (.returned (some (iv w))) (σ) 0 0 := by
  refine Mt.of (by decide +kernel) (Nat.le_of_ble_eq_true rfl) ?_
  intro Γ X hr hnl hini hnoh
  have X : Cx Γ cX1_slip "DayBoy" _ := X
  have hL : ∀ i, i < 2 → i < nLc Γ := fun i q => by rw [hnl]; exact q
  show V Γ σ 0 0 0 [(0, iv (x0)), (1, iv (x1))] []
  unfold f_X1_slip at h
  refine r_iload_n X 0 dX1_slip_0 rfl rfl ?_
  refine r_iload_n X 1 dX1_slip_1 rfl rfl ?_
  refine r_isub X dX1_slip_2 ?_
  refine r_bipush X dX1_slip_3 (by decide) ?_
  refine r_iadd X dX1_slip_5 ?_
  refine r_bipush X dX1_slip_6 (by decide) ?_
  obtain ⟨c1, h⟩ := ck_some h
  refine r_irem X dX1_slip_8 c1 (by decide) (by decide) ?_
  refine r_iconst X dX1_slip_9 ?_
  refine r_isub X dX1_slip_10 ?_
  cases h
  exact r_iret X hr dX1_slip_11
theorem hy_X1_areAlike : yX1_areAlike.cls ≠ "java/lang/invoke/MethodHandle" ∧ yX1_areAlike.cls ≠ "java/lang/invoke/VarHandle" ∧ (parseMethodDescriptor yX1_areAlike.desc).map (fun d => d.parameters.length) = some 4 := by decide +kernel
set_option maxHeartbeats 4000000 in
theorem w_X1_areAlike (l : Launch) (D : DD) (sz : Nat) {σ : St} {p0 : Nat} {x1 : Int} {x2 : Int} {x3 : Int} {w : Int} (h : f_X1_areAlike σ p0 x1 x2 x3 = some w) : Mt l yX1_areAlike cX1_areAlike 4 (some FieldType.boolean) ({ frames := 8, cells := 0, slots := 0, locals := 123 } : Room) D sz σ [.ref (p0), iv (x1), iv (x2), iv (x3)] (.returned (some (iv w))) (σ) 0 0 := by
  refine Mt.of (by decide +kernel) (Nat.le_of_ble_eq_true rfl) ?_
  intro Γ X hr hnl hini hnoh
  have X : Cx Γ cX1_areAlike "DayBoy" _ := X
  have hL : ∀ i, i < 4 → i < nLc Γ := fun i q => by rw [hnl]; exact q
  show V Γ σ 0 0 0 [(0, .ref (p0)), (1, iv (x1)), (2, iv (x2)), (3, iv (x3))] []
  unfold f_X1_areAlike at h
  refine r_aload_n X 0 dX1_areAlike_0 rfl rfl ?_
  refine r_iload_n X 1 dX1_areAlike_1 rfl rfl ?_
  refine r_iload_n X 2 dX1_areAlike_2 rfl rfl ?_
  refine r_iconst X dX1_areAlike_3 ?_
  obtain ⟨ho2, h⟩ := cO_some h
  obtain ⟨r3, h1, h⟩ := bd_some h
  refine r_cV (Wd := 0) X (fun l D sz => w_X2_has l D sz h1) ho2.1 rfl q793 q794 q792 q105 q795 hy_X2_has rfl dX1_areAlike_4 rfl rfl (Nat.le_of_ble_eq_true rfl) ⟨Nat.le_of_ble_eq_true rfl, Nat.le_of_ble_eq_true rfl⟩ ⟨Nat.le_of_ble_eq_true rfl, Nat.le_of_ble_eq_true rfl⟩ ?_
  refine r_if_eq (tgt := 41) X dX1_areAlike_7 (by decide) h (fun c4 h => ?_) (fun c4 h => ?_)
  · refine r_iconst X dX1_areAlike_41 ?_
    cases h
    exact r_zret X hr (by decide) dX1_areAlike_42
  · refine r_aload_n X 0 dX1_areAlike_10 rfl rfl ?_
    refine r_iload_n X 1 dX1_areAlike_11 rfl rfl ?_
    refine r_iload_n X 3 dX1_areAlike_12 rfl rfl ?_
    refine r_iconst X dX1_areAlike_13 ?_
    obtain ⟨r7, h6, h⟩ := bd_some h
    refine r_cV (Wd := 0) X (fun l D sz => w_X2_has l D sz h6) ho2.1 rfl q793 q794 q792 q105 q795 hy_X2_has rfl dX1_areAlike_14 rfl rfl (Nat.le_of_ble_eq_true rfl) ⟨Nat.le_of_ble_eq_true rfl, Nat.le_of_ble_eq_true rfl⟩ ⟨Nat.le_of_ble_eq_true rfl, Nat.le_of_ble_eq_true rfl⟩ ?_
    refine r_if_eq (tgt := 41) X dX1_areAlike_17 (by decide) h (fun c8 h => ?_) (fun c8 h => ?_)
    · refine r_iconst X dX1_areAlike_41 ?_
      cases h
      exact r_zret X hr (by decide) dX1_areAlike_42
    · refine r_aload_n X 0 dX1_areAlike_20 rfl rfl ?_
      refine r_iload_n X 1 dX1_areAlike_21 rfl rfl ?_
      refine r_iload_n X 2 dX1_areAlike_22 rfl rfl ?_
      refine r_iconst X dX1_areAlike_23 ?_
      obtain ⟨r11, h10, h⟩ := bd_some h
      refine r_cV (Wd := 0) X (fun l D sz => w_X2_week l D sz h10) ho2.1 rfl q839 q840 q899 q105 q841 hy_X2_week rfl dX1_areAlike_24 rfl rfl (Nat.le_of_ble_eq_true rfl) ⟨Nat.le_of_ble_eq_true rfl, Nat.le_of_ble_eq_true rfl⟩ ⟨Nat.le_of_ble_eq_true rfl, Nat.le_of_ble_eq_true rfl⟩ ?_
      refine r_aload_n X 0 dX1_areAlike_27 rfl rfl ?_
      refine r_iload_n X 1 dX1_areAlike_28 rfl rfl ?_
      refine r_iload_n X 3 dX1_areAlike_29 rfl rfl ?_
      refine r_iconst X dX1_areAlike_30 ?_
      obtain ⟨r13, h12, h⟩ := bd_some h
      refine r_cV (Wd := 1) X (fun l D sz => w_X2_week l D sz h12) ho2.1 rfl q839 q840 q899 q105 q841 hy_X2_week rfl dX1_areAlike_31 rfl rfl (Nat.le_of_ble_eq_true rfl) ⟨Nat.le_of_ble_eq_true rfl, Nat.le_of_ble_eq_true rfl⟩ ⟨Nat.le_of_ble_eq_true rfl, Nat.le_of_ble_eq_true rfl⟩ ?_
      refine r_icmp_ne (tgt := 41) X dX1_areAlike_34 (by decide) h (fun c14 h => ?_) (fun c14 h => ?_)
      · refine r_iconst X dX1_areAlike_37 ?_
        refine r_goto (tgt := 42) X dX1_areAlike_38 (by decide) ?_
        cases h
        exact r_zret X hr (by decide) dX1_areAlike_42
      · refine r_iconst X dX1_areAlike_41 ?_
        cases h
        exact r_zret X hr (by decide) dX1_areAlike_42
theorem hy_X1_falseOf : yX1_falseOf.cls ≠ "java/lang/invoke/MethodHandle" ∧ yX1_falseOf.cls ≠ "java/lang/invoke/VarHandle" ∧ (parseMethodDescriptor yX1_falseOf.desc).map (fun d => d.parameters.length) = some 4 := by decide +kernel
set_option maxHeartbeats 4000000 in
theorem w_X1_falseOf (l : Launch) (D : DD) (sz : Nat) {σ : St} {p0 : Nat} {p1 : Nat} {x2 : Int} {x3 : Int} {w : Int × St} (h : f_X1_falseOf σ p0 p1 x2 x3 = some w) : Mt l yX1_falseOf cX1_falseOf 8 (some FieldType.int) ({ frames := 9, cells := 0, slots := 0, locals := 138 } : Room) D sz σ [.ref (p0), .ref (p1), iv (x2), iv (x3)] (.returned (some (iv w.1))) (w.2) 0 0 := by
  refine Mt.of (by decide +kernel) (Nat.le_of_ble_eq_true rfl) ?_
  intro Γ X hr hnl hini hnoh
  have X : Cx Γ cX1_falseOf "DayBoy" _ := X
  have hL : ∀ i, i < 8 → i < nLc Γ := fun i q => by rw [hnl]; exact q
  show V Γ σ 0 0 0 [(0, .ref (p0)), (1, .ref (p1)), (2, iv (x2)), (3, iv (x3))] []
  unfold f_X1_falseOf at h
  refine r_iconst X dX1_falseOf_0 ?_
  refine r_istore X dX1_falseOf_1 (hL 4 (by decide)) (lv' := [(4, iv (0)), (0, .ref (p0)), (1, .ref (p1)), (2, iv (x2)), (3, iv (x3))]) rfl ?_
  refine r_iload_n X 3 dX1_falseOf_3 rfl rfl ?_
  refine r_istore X dX1_falseOf_4 (hL 5 (by decide)) (lv' := [(5, iv (x2)), (4, iv (0)), (0, .ref (p0)), (1, .ref (p1)), (2, iv (x2)), (3, iv (x3))]) rfl ?_
  have L6 : ∀ s : Int × Int, lp (fun s => f_X1_falseOf_b6 (σ) (p0) (p1) (x2) (x3) s.1 s.2) s = some w → V Γ (σ) 0 0 6 [(0, .ref (p0)), (1, .ref (p1)), (2, iv (x2)), (3, iv (x3)), (4, iv (s.1)), (5, iv (s.2))] [] := by
    refine lp_rule (P := fun s : Int × Int => V Γ (σ) 0 0 6 [(0, .ref (p0)), (1, .ref (p1)), (2, iv (x2)), (3, iv (x3)), (4, iv (s.1)), (5, iv (s.2))] []) ?_
    intro s z1 h ihb1 ihe1
    obtain ⟨v4_1, v5_1⟩ := s
    have h : f_X1_falseOf_b6 (σ) (p0) (p1) (x2) (x3) v4_1 v5_1 = some z1 := h
    unfold f_X1_falseOf_b6 at h
    show V Γ σ 0 0 6 [(0, .ref (p0)), (1, .ref (p1)), (2, iv (x2)), (3, iv (x3)), (4, iv (v4_1)), (5, iv (v5_1))] []
    refine r_aload_n X 0 dX1_falseOf_6 rfl rfl ?_
    obtain ⟨ho1, h⟩ := cO_some h
    refine r_getA (kf := 9) X ho1.1 rfl (by decide) (by decide) (Or.inr ⟨_, q229⟩) dX1_falseOf_7 ?_
    refine r_iload X 5 dX1_falseOf_10 rfl ?_
    refine r_lald X ho1.1 (ho1.2 9 (by decide)) rfl rfl rfl (by decide) dX1_falseOf_12 h (fun h => ?_)
    refine r_lconst (y := 0) X dX1_falseOf_13 rfl ?_
    refine r_lcmp_le (tgt := 64) X dX1_falseOf_14 dX1_falseOf_15 (by decide) h (fun c2 h => ?_) (fun c2 h => ?_)
    · refine r_aload_n X 0 dX1_falseOf_18 rfl rfl ?_
      refine r_iload X 5 dX1_falseOf_19 rfl ?_
      obtain ⟨r4, h3, h⟩ := bd_some h
      refine r_cV (Wd := 0) X (fun l D sz => w_X5_nextYear l D sz h3) ho1.1 rfl q867 q868 q890 q108 q869 hy_X5_nextYear rfl dX1_falseOf_21 rfl rfl (Nat.le_of_ble_eq_true rfl) ⟨Nat.le_of_ble_eq_true rfl, Nat.le_of_ble_eq_true rfl⟩ ⟨Nat.le_of_ble_eq_true rfl, Nat.le_of_ble_eq_true rfl⟩ ?_
      refine r_istore X dX1_falseOf_24 (hL 6 (by decide)) (lv' := [(6, iv (r4)), (0, .ref (p0)), (1, .ref (p1)), (2, iv (x2)), (3, iv (x3)), (4, iv (v4_1)), (5, iv (v5_1))]) rfl ?_
      refine r_aload_n X 2 dX1_falseOf_26 rfl rfl ?_
      refine r_iload X 6 dX1_falseOf_27 rfl ?_
      obtain ⟨ho6, h⟩ := cO_some h
      obtain ⟨r7, h5, h⟩ := bd_some h
      refine r_cV (Wd := 0) X (fun l D sz => w_X2_kind l D sz h5) ho6.1 rfl q834 q835 q833 q105 q836 hy_X2_kind rfl dX1_falseOf_29 rfl rfl (Nat.le_of_ble_eq_true rfl) ⟨Nat.le_of_ble_eq_true rfl, Nat.le_of_ble_eq_true rfl⟩ ⟨Nat.le_of_ble_eq_true rfl, Nat.le_of_ble_eq_true rfl⟩ ?_
      refine r_iconst X dX1_falseOf_32 ?_
      refine r_icmp_eq (tgt := 51) X dX1_falseOf_33 (by decide) h (fun c8 h => ?_) (fun c8 h => ?_)
      · have h := ex_some h ihe1
        refine r_iload X 5 dX1_falseOf_51 rfl ?_
        cases h
        exact r_iret X hr dX1_falseOf_53
      · refine r_aload_n X 2 dX1_falseOf_36 rfl rfl ?_
        refine r_iload X 6 dX1_falseOf_37 rfl ?_
        obtain ⟨r10, h9, h⟩ := bd_some h
        refine r_cV (Wd := 0) X (fun l D sz => w_X2_kind l D sz h9) ho6.1 rfl q834 q835 q833 q105 q836 hy_X2_kind rfl dX1_falseOf_39 rfl rfl (Nat.le_of_ble_eq_true rfl) ⟨Nat.le_of_ble_eq_true rfl, Nat.le_of_ble_eq_true rfl⟩ ⟨Nat.le_of_ble_eq_true rfl, Nat.le_of_ble_eq_true rfl⟩ ?_
        refine r_aload_n X 2 dX1_falseOf_42 rfl rfl ?_
        refine r_iload X 0 dX1_falseOf_43 rfl ?_
        obtain ⟨r12, h11, h⟩ := bd_some h
        refine r_cV (Wd := 1) X (fun l D sz => w_X2_kind l D sz h11) ho6.1 rfl q834 q835 q833 q105 q836 hy_X2_kind rfl dX1_falseOf_45 rfl rfl (Nat.le_of_ble_eq_true rfl) ⟨Nat.le_of_ble_eq_true rfl, Nat.le_of_ble_eq_true rfl⟩ ⟨Nat.le_of_ble_eq_true rfl, Nat.le_of_ble_eq_true rfl⟩ ?_
        refine r_icmp_eq (tgt := 54) X dX1_falseOf_48 (by decide) h (fun c13 h => ?_) (fun c13 h => ?_)
        · refine r_iload X 0 dX1_falseOf_54 rfl ?_
          refine r_istore X dX1_falseOf_56 (hL 5 (by decide)) (lv' := [(5, iv (r4)), (6, iv (r4)), (0, .ref (p0)), (1, .ref (p1)), (2, iv (x2)), (3, iv (x3)), (4, iv (v4_1))]) rfl ?_
          refine r_iinc X 6 dX1_falseOf_58 rfl (hL 4 (by decide)) (lv' := [(4, iv ((v4_1 + 1))), (5, iv (r4)), (6, iv (r4)), (0, .ref (p0)), (1, .ref (p1)), (2, iv (x2)), (3, iv (x3))]) rfl ?_
          refine r_goto (tgt := 6) X dX1_falseOf_61 (by decide) ?_
          exact V.sub [3, 4, 5, 6, 0, 1] rfl (ihb1 _ (Option.some.inj h).symm)
        · have h := ex_some h ihe1
          refine r_iload X 5 dX1_falseOf_51 rfl ?_
          cases h
          exact r_iret X hr dX1_falseOf_53
    · have h := ex_some h ihe1
      refine r_aload_n X 0 dX1_falseOf_64 rfl rfl ?_
      refine r_iload_n X 2 dX1_falseOf_65 rfl rfl ?_
      obtain ⟨r15, σ16, h14, h⟩ := bd2_some h
      refine r_cV (Wd := 0) X (fun l D sz => w_X5_knownYear l D sz h14) ho1.1 rfl q863 q864 q862 q108 q865 hy_X5_knownYear rfl dX1_falseOf_66 rfl rfl (Nat.le_of_ble_eq_true rfl) ⟨Nat.le_of_ble_eq_true rfl, Nat.le_of_ble_eq_true rfl⟩ ⟨Nat.le_of_ble_eq_true rfl, Nat.le_of_ble_eq_true rfl⟩ ?_
      refine r_istore X dX1_falseOf_69 (hL 5 (by decide)) (lv' := [(5, iv (r15)), (0, .ref (p0)), (1, .ref (p1)), (2, iv (x2)), (3, iv (x3)), (4, iv (v4_1))]) rfl ?_
      refine r_iload_n X 4 dX1_falseOf_71 rfl rfl ?_
      refine r_istore X dX1_falseOf_72 (hL 6 (by decide)) (lv' := [(6, iv (x3)), (5, iv (r15)), (0, .ref (p0)), (1, .ref (p1)), (2, iv (x2)), (3, iv (x3)), (4, iv (v4_1))]) rfl ?_
      have L74 : ∀ s : Int × Int, lp (fun s => f_X1_falseOf_b74 (σ16) (p0) (p1) (r15) s.1 s.2) s = some w → V Γ (σ16) 0 0 74 [(0, .ref (p0)), (1, .ref (p1)), (4, iv (s.1)), (5, iv (r15)), (6, iv (s.2))] [] := by
        refine lp_rule (P := fun s : Int × Int => V Γ (σ16) 0 0 74 [(0, .ref (p0)), (1, .ref (p1)), (4, iv (s.1)), (5, iv (r15)), (6, iv (s.2))] []) ?_
        intro s z1 h ihb1 ihe1
        obtain ⟨v4_1, v6_1⟩ := s
        have h : f_X1_falseOf_b74 (σ16) (p0) (p1) (r15) v4_1 v6_1 = some z1 := h
        unfold f_X1_falseOf_b74 at h
        show V Γ σ16 0 0 74 [(0, .ref (p0)), (1, .ref (p1)), (4, iv (v4_1)), (5, iv (r15)), (6, iv (v6_1))] []
        refine r_aload_n X 0 dX1_falseOf_74 rfl rfl ?_
        obtain ⟨ho17, h⟩ := cO_some h
        refine r_getA (kf := 10) X ho17.1 rfl (by decide) (by decide) (Or.inr ⟨_, q231⟩) dX1_falseOf_75 ?_
        refine r_iload X 4 dX1_falseOf_78 rfl ?_
        refine r_lald X ho17.1 (ho17.2 10 (by decide)) rfl rfl rfl (by decide) dX1_falseOf_80 h (fun h => ?_)
        refine r_lconst (y := 0) X dX1_falseOf_81 rfl ?_
        refine r_lcmp_le (tgt := 120) X dX1_falseOf_82 dX1_falseOf_83 (by decide) h (fun c18 h => ?_) (fun c18 h => ?_)
        · refine r_aload_n X 0 dX1_falseOf_86 rfl rfl ?_
          refine r_iload X 4 dX1_falseOf_87 rfl ?_
          obtain ⟨r20, h19, h⟩ := bd_some h
          refine r_cV (Wd := 0) X (fun l D sz => w_X5_nextMonth l D sz h19) ho17.1 rfl q879 q880 q891 q108 q881 hy_X5_nextMonth rfl dX1_falseOf_89 rfl rfl (Nat.le_of_ble_eq_true rfl) ⟨Nat.le_of_ble_eq_true rfl, Nat.le_of_ble_eq_true rfl⟩ ⟨Nat.le_of_ble_eq_true rfl, Nat.le_of_ble_eq_true rfl⟩ ?_
          refine r_istore X dX1_falseOf_92 (hL 7 (by decide)) (lv' := [(7, iv (r20)), (0, .ref (p0)), (1, .ref (p1)), (4, iv (v4_1)), (5, iv (r15)), (6, iv (v6_1))]) rfl ?_
          refine r_aload_n X 2 dX1_falseOf_94 rfl rfl ?_
          refine r_iload X 4 dX1_falseOf_95 rfl ?_
          refine r_iload X 5 dX1_falseOf_97 rfl ?_
          refine r_iload X 0 dX1_falseOf_99 rfl ?_
          obtain ⟨r22, h21, h⟩ := bd_some h
          refine r_cS (Wd := 0) X (fun l D sz => w_X1_areAlike l D sz h21) q911 q910 q104 q912 hy_X1_areAlike rfl dX1_falseOf_101 rfl rfl (Nat.le_of_ble_eq_true rfl) ⟨Nat.le_of_ble_eq_true rfl, Nat.le_of_ble_eq_true rfl⟩ ⟨Nat.le_of_ble_eq_true rfl, Nat.le_of_ble_eq_true rfl⟩ ?_
          refine r_if_ne (tgt := 110) X dX1_falseOf_104 (by decide) h (fun c23 h => ?_) (fun c23 h => ?_)
          · have h := ex_some h ihe1
            refine r_iload X 3 dX1_falseOf_107 rfl ?_
            cases h
            exact r_iret X hr dX1_falseOf_109
          · refine r_iload X 0 dX1_falseOf_110 rfl ?_
            refine r_istore X dX1_falseOf_112 (hL 6 (by decide)) (lv' := [(6, iv (r20)), (7, iv (r20)), (0, .ref (p0)), (1, .ref (p1)), (4, iv (v4_1)), (5, iv (r15))]) rfl ?_
            refine r_iinc X 4 dX1_falseOf_114 rfl (hL 4 (by decide)) (lv' := [(4, iv ((v4_1 + 1))), (6, iv (r20)), (7, iv (r20)), (0, .ref (p0)), (1, .ref (p1)), (5, iv (r15))]) rfl ?_
            refine r_goto (tgt := 74) X dX1_falseOf_117 (by decide) ?_
            exact V.sub [3, 4, 0, 5, 1] rfl (ihb1 _ (Option.some.inj h).symm)
        · have h := ex_some h ihe1
          refine r_iconst X dX1_falseOf_120 ?_
          cases h
          exact r_iret X hr dX1_falseOf_121
      exact V.sub [2, 3, 6, 1, 0] rfl (L74 (v4_1, x3) h)
  exact V.sub [2, 3, 4, 5, 1, 0] rfl (L6 (0, x2) h)
theorem hy_X1_answers : yX1_answers.cls ≠ "java/lang/invoke/MethodHandle" ∧ yX1_answers.cls ≠ "java/lang/invoke/VarHandle" ∧ (parseMethodDescriptor yX1_answers.desc).map (fun d => d.parameters.length) = some 6 := by decide +kernel
set_option maxHeartbeats 4000000 in
theorem w_X1_answers (l : Launch) (D : DD) (sz : Nat) {σ : St} {a0 : Nat} {x1 : Int} {x2 : Int} {x3 : Int} {x4 : Int} {x5 : Int} {x6 : Int} {w : Int × St} (h : f_X1_answers σ a0 x1 x2 x3 x4 x5 x6 = some w) : Mt l yX1_answers cX1_answers 9 (some FieldType.int) ({ frames := 10, cells := 0, slots := 0, locals := 157 } : Room) D sz σ [.ref a0, iv (x1), iv (x2), iv (x3), iv (x4), iv (x5), iv (x6)] (.returned (some (iv w.1))) (w.2) 0 0 := by
  refine Mt.of (by decide +kernel) (Nat.le_of_ble_eq_true rfl) ?_
  intro Γ X hr hnl hini hnoh
  have X : Cx Γ cX1_answers "DayBoy" _ := X
  have hL : ∀ i, i < 9 → i < nLc Γ := fun i q => by rw [hnl]; exact q
  show V Γ σ 0 0 0 [(0, .ref (a0)), (1, iv (x1)), (2, iv (x2)), (3, iv (x3)), (4, iv (x4)), (5, iv (x5)), (6, iv (x6))] []
  unfold f_X1_answers at h
  obtain ⟨ho0, h⟩ := cO_some h
  refine r_aload_n X 0 dX1_answers_0 rfl rfl ?_
  refine r_iload_n X 1 dX1_answers_1 rfl rfl ?_
  refine r_iload_n X 2 dX1_answers_2 rfl rfl ?_
  refine r_iload_n X 3 dX1_answers_3 rfl rfl ?_
  refine r_iload X 4 dX1_answers_4 rfl ?_
  refine r_iload X 5 dX1_answers_6 rfl ?_
  obtain ⟨r2, σ3, h1, h⟩ := bd2_some h
  refine r_cV (Wd := 0) X (fun l D sz => w_X1_isAnswered l D sz h1) ho0.1 rfl q848 qs26 q846 q104 q849 hy_X1_isAnswered rfl dX1_answers_8 rfl rfl (Nat.le_of_ble_eq_true rfl) ⟨Nat.le_of_ble_eq_true rfl, Nat.le_of_ble_eq_true rfl⟩ ⟨Nat.le_of_ble_eq_true rfl, Nat.le_of_ble_eq_true rfl⟩ ?_
  refine r_if_eq (tgt := 27) X dX1_answers_11 (by decide) h (fun c4 h => ?_) (fun c4 h => ?_)
  · refine r_sipush X dX1_answers_27 (by decide) ?_
    cases h
    exact r_iret X hr dX1_answers_30
  · refine r_iload X 6 dX1_answers_14 rfl ?_
    obtain ⟨c5, h⟩ := ck_some h
    refine r_i2l X dX1_answers_16 c5 ?_
    refine r_lconst (y := 0) X dX1_answers_17 rfl ?_
    refine r_ldc2 (z := 3) X q753 dX1_answers_18 rfl ?_
    obtain ⟨r7, h6, h⟩ := bd_some h
    refine r_cS (Wd := 0) X (fun l D sz => w_X1_isIn l D sz h6) q414 q413 q104 q415 hy_X1_isIn rfl dX1_answers_21 rfl rfl (Nat.le_of_ble_eq_true rfl) ⟨Nat.le_of_ble_eq_true rfl, Nat.le_of_ble_eq_true rfl⟩ ⟨Nat.le_of_ble_eq_true rfl, Nat.le_of_ble_eq_true rfl⟩ ?_
    refine r_if_ne (tgt := 31) X dX1_answers_24 (by decide) h (fun c8 h => ?_) (fun c8 h => ?_)
    · refine r_sipush X dX1_answers_27 (by decide) ?_
      cases h
      exact r_iret X hr dX1_answers_30
    · refine r_aload_n X 0 dX1_answers_31 rfl rfl ?_
      obtain ⟨ho9, h⟩ := cO_some h
      refine r_getA (kf := 5) X ho9.1 rfl (by decide) (by decide) (Or.inl q311) dX1_answers_32 ?_
      refine r_iload_n X 1 dX1_answers_35 rfl rfl ?_
      refine r_aald X ho9.1 (ho9.2 5 (by decide)) rfl rfl (by decide) rfl (by decide) dX1_answers_36 h (fun b10 h => ?_)
      refine r_astore X dX1_answers_37 (hL 7 (by decide)) (lv' := [(7, .ref (b10)), (0, .ref (a0)), (1, iv (x1)), (2, iv (x2)), (3, iv (x3)), (4, iv (x4)), (5, iv (x5)), (6, iv (x6))]) rfl ?_
      refine r_aload_n X 1 dX1_answers_39 rfl rfl ?_
      refine r_getA (kf := 4) X ho9.1 rfl (by decide) (by decide) (Or.inl q310) dX1_answers_40 ?_
      refine r_iload_n X 3 dX1_answers_43 rfl rfl ?_
      refine r_aald X ho9.1 (ho9.2 4 (by decide)) rfl rfl (by decide) rfl (by decide) dX1_answers_44 h (fun b11 h => ?_)
      refine r_astore X dX1_answers_45 (hL 8 (by decide)) (lv' := [(8, .ref (b11)), (7, .ref (b10)), (0, .ref (a0)), (1, iv (x1)), (2, iv (x2)), (3, iv (x3)), (4, iv (x4)), (5, iv (x5)), (6, iv (x6))]) rfl ?_
      refine r_iload X 8 dX1_answers_47 rfl ?_
      obtain ⟨hrc30, -, hA, h⟩ := cEq_some h
      by_cases c30 : (x6) = 0
      · have h := hA c30
        refine r_tabIn (tgt := 76) X dX1_answers_49 hrc30 0 c30 (by decide) (by decide) rfl (by decide) ?_
        refine r_aload X 1 dX1_answers_76 rfl ?_
        refine r_aload X 0 dX1_answers_78 rfl ?_
        refine r_iload_n X 5 dX1_answers_80 rfl rfl ?_
        refine r_iload X 6 dX1_answers_81 rfl ?_
        refine r_iload X 7 dX1_answers_83 rfl ?_
        obtain ⟨r14, σ15, h13, h⟩ := bd2_some h
        refine r_cS (Wd := 0) X (fun l D sz => w_X1_answerOf l D sz h13) q897 q896 q104 q898 hy_X1_answerOf rfl dX1_answers_85 rfl rfl (Nat.le_of_ble_eq_true rfl) ⟨Nat.le_of_ble_eq_true rfl, Nat.le_of_ble_eq_true rfl⟩ ⟨Nat.le_of_ble_eq_true rfl, Nat.le_of_ble_eq_true rfl⟩ ?_
        cases h
        exact r_iret X hr dX1_answers_88
      have h := h c30
      obtain ⟨hrc31, -, hA, h⟩ := cEq_some h
      by_cases c31 : (x6) = 1
      · have h := hA c31
        refine r_tabIn (tgt := 89) X dX1_answers_49 hrc31 1 c31 (by decide) (by decide) rfl (by decide) ?_
        refine r_aload X 1 dX1_answers_89 rfl ?_
        refine r_aload X 0 dX1_answers_91 rfl ?_
        refine r_iload_n X 5 dX1_answers_93 rfl rfl ?_
        refine r_iload X 6 dX1_answers_94 rfl ?_
        refine r_iload X 7 dX1_answers_96 rfl ?_
        obtain ⟨r17, σ18, h16, h⟩ := bd2_some h
        refine r_cS (Wd := 0) X (fun l D sz => w_X1_tenthsOf l D sz h16) q901 q900 q104 q902 hy_X1_tenthsOf rfl dX1_answers_98 rfl rfl (Nat.le_of_ble_eq_true rfl) ⟨Nat.le_of_ble_eq_true rfl, Nat.le_of_ble_eq_true rfl⟩ ⟨Nat.le_of_ble_eq_true rfl, Nat.le_of_ble_eq_true rfl⟩ ?_
        cases h
        exact r_iret X hr dX1_answers_101
      have h := h c31
      obtain ⟨hrc32, -, hA, h⟩ := cEq_some h
      by_cases c32 : (x6) = 2
      · have h := hA c32
        refine r_tabIn (tgt := 102) X dX1_answers_49 hrc32 2 c32 (by decide) (by decide) rfl (by decide) ?_
        refine r_aload X 1 dX1_answers_102 rfl ?_
        refine r_aload X 0 dX1_answers_104 rfl ?_
        refine r_iload_n X 5 dX1_answers_106 rfl rfl ?_
        refine r_iload X 6 dX1_answers_107 rfl ?_
        refine r_iload X 7 dX1_answers_109 rfl ?_
        obtain ⟨r20, σ21, h19, h⟩ := bd2_some h
        refine r_cS (Wd := 0) X (fun l D sz => w_X1_answerOf l D sz h19) q897 q896 q104 q898 hy_X1_answerOf rfl dX1_answers_111 rfl rfl (Nat.le_of_ble_eq_true rfl) ⟨Nat.le_of_ble_eq_true rfl, Nat.le_of_ble_eq_true rfl⟩ ⟨Nat.le_of_ble_eq_true rfl, Nat.le_of_ble_eq_true rfl⟩ ?_
        refine r_aload X 0 dX1_answers_114 rfl ?_
        refine r_iload_n X 5 dX1_answers_116 rfl rfl ?_
        refine r_iload X 6 dX1_answers_117 rfl ?_
        refine r_iload X 7 dX1_answers_119 rfl ?_
        obtain ⟨ho23, h⟩ := cO_some h
        obtain ⟨r24, h22, h⟩ := bd_some h
        refine r_cV (Wd := 1) X (fun l D sz => w_X2_week l D sz h22) ho23.1 rfl q839 q840 q899 q105 q841 hy_X2_week rfl dX1_answers_121 rfl rfl (Nat.le_of_ble_eq_true rfl) ⟨Nat.le_of_ble_eq_true rfl, Nat.le_of_ble_eq_true rfl⟩ ⟨Nat.le_of_ble_eq_true rfl, Nat.le_of_ble_eq_true rfl⟩ ?_
        obtain ⟨r26, h25, h⟩ := bd_some h
        refine r_cS (Wd := 0) X (fun l D sz => w_X1_slip l D sz h25) q905 q904 q104 q906 hy_X1_slip rfl dX1_answers_124 rfl rfl (Nat.le_of_ble_eq_true rfl) ⟨Nat.le_of_ble_eq_true rfl, Nat.le_of_ble_eq_true rfl⟩ ⟨Nat.le_of_ble_eq_true rfl, Nat.le_of_ble_eq_true rfl⟩ ?_
        cases h
        exact r_iret X hr dX1_answers_127
      have h := h c32
      refine r_tabOut (tgt := 128) X dX1_answers_49 hrc30 (by omega) (by decide) ?_
      refine r_aload X 1 dX1_answers_128 rfl ?_
      refine r_aload X 0 dX1_answers_130 rfl ?_
      refine r_iload_n X 5 dX1_answers_132 rfl rfl ?_
      refine r_iload X 6 dX1_answers_133 rfl ?_
      obtain ⟨r28, σ29, h27, h⟩ := bd2_some h
      refine r_cS (Wd := 0) X (fun l D sz => w_X1_falseOf l D sz h27) q908 q907 q104 q909 hy_X1_falseOf rfl dX1_answers_135 rfl rfl (Nat.le_of_ble_eq_true rfl) ⟨Nat.le_of_ble_eq_true rfl, Nat.le_of_ble_eq_true rfl⟩ ⟨Nat.le_of_ble_eq_true rfl, Nat.le_of_ble_eq_true rfl⟩ ?_
      cases h
      exact r_iret X hr dX1_answers_138
theorem hy_X15_init : yX15_init.cls ≠ "java/lang/invoke/MethodHandle" ∧ yX15_init.cls ≠ "java/lang/invoke/VarHandle" ∧ (parseMethodDescriptor yX15_init.desc).map (fun d => d.parameters.length) = some 8 := by decide +kernel
set_option maxHeartbeats 4000000 in
theorem w_X15_init (l : Launch) (D : DD) (sz : Nat) {σ : St} {a0 : Nat} {x1 : Int} {x2 : Int} {x3 : Int} {x4 : Int} {x5 : Int} {x6 : Int} {x7 : Int} {x8 : Int} {w : St} (h : f_X15_init σ a0 x1 x2 x3 x4 x5 x6 x7 x8 = some w) : Mt l yX15_init cX15_init 9 none ({ frames := 1, cells := 0, slots := 0, locals := 12 } : Room) D sz σ [.ref a0, iv (x1), iv (x2), iv (x3), iv (x4), iv (x5), iv (x6), iv (x7), iv (x8)] (.returned none) (w) 0 0 := by
  refine Mt.of (by decide +kernel) (Nat.le_of_ble_eq_true rfl) ?_
  intro Γ X hr hnl hini hnoh
  have X : Cx Γ cX15_init "DayBoy$Ask" _ := X
  have hL : ∀ i, i < 9 → i < nLc Γ := fun i q => by rw [hnl]; exact q
  have hini := hini rfl
  show V Γ σ 0 0 0 [(0, .ref (a0)), (1, iv (x1)), (2, iv (x2)), (3, iv (x3)), (4, iv (x4)), (5, iv (x5)), (6, iv (x6)), (7, iv (x7)), (8, iv (x8))] []
  unfold f_X15_init at h
  obtain ⟨hc0, h⟩ := ck_some h
  refine r_aload_n X 0 dX15_init_0 rfl rfl ?_
  refine r_objInit X q923 q133 q134 dX15_init_1 (by decide) (Nat.le_of_ble_eq_true rfl) ?_
  refine r_aload_n X 0 dX15_init_4 rfl rfl ?_
  refine r_iload_n X 1 dX15_init_5 rfl rfl ?_
  refine r_putIF (kf := 0) X hini hc0 rfl (by decide) rfl rfl q924 rfl dX15_init_6 rfl ?_
  refine r_let h (fun σ1 eσ1 h => ?_)
  refine r_aload_n X 0 dX15_init_9 rfl rfl ?_
  refine r_iload_n X 2 dX15_init_10 rfl rfl ?_
  have hk2 : cL σ1 (a0) = some 13 := by rw [eσ1]; exact hc0
  refine r_putIF (kf := 1) X hini hk2 rfl (by decide) rfl rfl q926 rfl dX15_init_11 rfl ?_
  refine r_let h (fun σ3 eσ3 h => ?_)
  refine r_aload_n X 0 dX15_init_14 rfl rfl ?_
  refine r_iload_n X 3 dX15_init_15 rfl rfl ?_
  have hk4 : cL σ3 (a0) = some 13 := by rw [eσ3]; exact hk2
  refine r_putIF (kf := 2) X hini hk4 rfl (by decide) rfl rfl q928 rfl dX15_init_16 rfl ?_
  refine r_let h (fun σ5 eσ5 h => ?_)
  refine r_aload_n X 0 dX15_init_19 rfl rfl ?_
  refine r_iload X 4 dX15_init_20 rfl ?_
  have hk6 : cL σ5 (a0) = some 13 := by rw [eσ5]; exact hk4
  refine r_putIF (kf := 3) X hini hk6 rfl (by decide) rfl rfl q930 rfl dX15_init_22 rfl ?_
  refine r_let h (fun σ7 eσ7 h => ?_)
  refine r_aload_n X 0 dX15_init_25 rfl rfl ?_
  refine r_iload X 5 dX15_init_26 rfl ?_
  have hk8 : cL σ7 (a0) = some 13 := by rw [eσ7]; exact hk6
  refine r_putIF (kf := 4) X hini hk8 rfl (by decide) rfl rfl q932 rfl dX15_init_28 rfl ?_
  refine r_let h (fun σ9 eσ9 h => ?_)
  refine r_aload_n X 0 dX15_init_31 rfl rfl ?_
  refine r_iload X 6 dX15_init_32 rfl ?_
  have hk10 : cL σ9 (a0) = some 13 := by rw [eσ9]; exact hk8
  refine r_putIF (kf := 5) X hini hk10 rfl (by decide) rfl rfl q934 rfl dX15_init_34 rfl ?_
  refine r_let h (fun σ11 eσ11 h => ?_)
  refine r_aload_n X 0 dX15_init_37 rfl rfl ?_
  refine r_iload X 7 dX15_init_38 rfl ?_
  have hk12 : cL σ11 (a0) = some 13 := by rw [eσ11]; exact hk10
  refine r_putIF (kf := 6) X hini hk12 rfl (by decide) rfl rfl q936 rfl dX15_init_40 rfl ?_
  refine r_let h (fun σ13 eσ13 h => ?_)
  refine r_aload_n X 0 dX15_init_43 rfl rfl ?_
  refine r_iload X 8 dX15_init_44 rfl ?_
  have hk14 : cL σ13 (a0) = some 13 := by rw [eσ13]; exact hk12
  refine r_putIF (kf := 7) X hini hk14 rfl (by decide) rfl rfl q938 rfl dX15_init_46 rfl ?_
  refine r_let h (fun σ15 eσ15 h => ?_)
  cases h
  exact r_vret X hr dX15_init_49
theorem hy_X1_ask : yX1_ask.cls ≠ "java/lang/invoke/MethodHandle" ∧ yX1_ask.cls ≠ "java/lang/invoke/VarHandle" ∧ (parseMethodDescriptor yX1_ask.desc).map (fun d => d.parameters.length) = some 7 := by decide +kernel
set_option maxHeartbeats 4000000 in
theorem w_X1_ask (l : Launch) (D : DD) (sz : Nat) {σ : St} {a0 : Nat} {x1 : Int} {x2 : Int} {x3 : Int} {x4 : Int} {x5 : Int} {x6 : Int} {x7 : Int} {w : Int × St} (h : f_X1_ask σ a0 x1 x2 x3 x4 x5 x6 x7 = some w) : Mt l yX1_ask cX1_ask 8 (some FieldType.int) ({ frames := 8, cells := 1, slots := 8, locals := 123 } : Room) D sz σ [.ref a0, iv (x1), iv (x2), iv (x3), iv (x4), iv (x5), iv (x6), iv (x7)] (.returned (some (iv w.1))) (w.2) 1 8 := by
  refine Mt.of (by decide +kernel) (Nat.le_of_ble_eq_true rfl) ?_
  intro Γ X hr hnl hini hnoh
  have X : Cx Γ cX1_ask "DayBoy" _ := X
  have hL : ∀ i, i < 8 → i < nLc Γ := fun i q => by rw [hnl]; exact q
  show V Γ σ 0 0 0 [(0, .ref (a0)), (1, iv (x1)), (2, iv (x2)), (3, iv (x3)), (4, iv (x4)), (5, iv (x5)), (6, iv (x6)), (7, iv (x7))] []
  unfold f_X1_ask at h
  obtain ⟨ho0, h⟩ := cO_some h
  have J89 : ∀ (σ_j89 : St), f_X1_ask_j89 (a0) (x1) (x2) (x3) (x4) (x5) (x6) (x7) σ_j89 = some w → V Γ σ_j89 0 0 89 [(0, .ref (a0)), (1, iv (x1)), (2, iv (x2)), (3, iv (x3)), (4, iv (x4)), (5, iv (x5)), (6, iv (x6)), (7, iv (x7))] [] := by
    intro σ_j89 h
    unfold f_X1_ask_j89 at h
    refine r_aload_n X 0 dX1_ask_89 rfl rfl ?_
    obtain ⟨ho1, h⟩ := cO_some h
    refine r_getA (kf := 12) X ho1.1 rfl (by decide) (by decide) (Or.inl q319) dX1_ask_90 ?_
    refine r_aload_n X 0 dX1_ask_93 rfl rfl ?_
    refine r_getI (kf := 13) X ho1.1 rfl (by decide) rfl (Or.inl q320) dX1_ask_94 ?_
    refine r_new (c := 13) (N := 8) X rfl rfl (by decide) q300 q919 q124 dX1_ask_97 (by decide) (by decide) ?_
    refine r_let h (fun σ2 eσ2 h => ?_)
    have hk3 : cL σ2 (nX (σ_j89)) = some 13 := by rw [eσ2, cL_nO, if_pos rfl]
    have ho4 : oc σ2 (nX (σ_j89)) 13 := ⟨hk3, fun k hk => by cases hk⟩
    refine r_dup X dX1_ask_100 rfl ?_
    refine r_iload_n X 1 dX1_ask_101 rfl rfl ?_
    refine r_iload_n X 2 dX1_ask_102 rfl rfl ?_
    refine r_iload_n X 3 dX1_ask_103 rfl rfl ?_
    refine r_iload X 4 dX1_ask_104 rfl ?_
    refine r_iload X 5 dX1_ask_106 rfl ?_
    refine r_aload_n X 0 dX1_ask_108 rfl rfl ?_
    obtain ⟨ho5, h⟩ := cO_some h
    refine r_getA (kf := 4) X ho5.1 rfl (by decide) (by decide) (Or.inl q310) dX1_ask_109 ?_
    refine r_iload_n X 2 dX1_ask_112 rfl rfl ?_
    refine r_aald X ho5.1 (ho5.2 4 (by decide)) rfl rfl (by decide) rfl (by decide) dX1_ask_113 h (fun b6 h => ?_)
    refine r_iload_n X 3 dX1_ask_114 rfl rfl ?_
    refine r_iload X 4 dX1_ask_115 rfl ?_
    refine r_iload X 5 dX1_ask_117 rfl ?_
    obtain ⟨ho8, h⟩ := cO_some h
    obtain ⟨r9, h7, h⟩ := bd_some h
    refine r_cV (Wd := 9) X (fun l D sz => w_X2_day l D sz h7) ho8.1 rfl q811 q812 q810 q105 q813 hy_X2_day rfl dX1_ask_119 rfl rfl (by simp only [List.map_cons, List.map_nil, cat_rf, cat_iv, cat_jv, cat_ref, List.sum_cons, List.sum_nil]; decide) ⟨Nat.le_of_ble_eq_true rfl, Nat.le_of_ble_eq_true rfl⟩ ⟨Nat.le_of_ble_eq_true rfl, Nat.le_of_ble_eq_true rfl⟩ ?_
    refine r_iload X 6 dX1_ask_122 rfl ?_
    refine r_iload X 7 dX1_ask_124 rfl ?_
    obtain ⟨σ11, h10, h⟩ := bd_some h
    refine r_cI (Wd := 3) X (fun l D sz => w_X15_init l D sz h10) rfl rfl q921 q920 q124 q922 hy_X15_init rfl dX1_ask_126 rfl rfl (by simp only [List.map_cons, List.map_nil, cat_rf, cat_iv, cat_jv, cat_ref, List.sum_cons, List.sum_nil]; decide) ⟨Nat.le_of_ble_eq_true rfl, Nat.le_of_ble_eq_true rfl⟩ ⟨Nat.le_of_ble_eq_true rfl, Nat.le_of_ble_eq_true rfl⟩ ?_
    obtain ⟨ho12, h⟩ := cO_some h
    obtain ⟨hv13, h⟩ := ck_some h
    rw [← hv13]
    obtain ⟨ho14, h⟩ := cO_some h
    refine r_aast X ho12.1 (ho12.2 12 (by decide)) rfl rfl (by decide) ho14.1 rfl rfl (by decide) dX1_ask_129 h (fun h => ?_)
    refine r_let h (fun σ15 eσ15 h => ?_)
    refine r_aload_n X 0 dX1_ask_130 rfl rfl ?_
    refine r_dup X dX1_ask_131 rfl ?_
    have hk16 : oc σ15 (a0) 0 := by rw [eσ15]; exact ho12
    refine r_getI (kf := 13) X hk16.1 rfl (by decide) rfl (Or.inl q320) dX1_ask_132 ?_
    refine r_iconst X dX1_ask_135 ?_
    refine r_iadd X dX1_ask_136 ?_
    refine r_putI (kf := 13) X hk16.1 rfl (by decide) rfl rfl (Or.inl q320) dX1_ask_137 rfl ?_
    refine r_let h (fun σ17 eσ17 h => ?_)
    refine r_aload_n X 0 dX1_ask_140 rfl rfl ?_
    have hk18 : oc σ17 (a0) 0 := by rw [eσ17]; exact hk16
    refine r_getI (kf := 13) X hk18.1 rfl (by decide) rfl (Or.inl q320) dX1_ask_141 ?_
    refine r_iconst X dX1_ask_144 ?_
    refine r_isub X dX1_ask_145 ?_
    cases h
    exact r_iret X hr dX1_ask_146
  refine r_aload_n X 0 dX1_ask_0 rfl rfl ?_
  refine r_getI (kf := 13) X ho0.1 rfl (by decide) rfl (Or.inl q320) dX1_ask_1 ?_
  refine r_bipush X dX1_ask_4 (by decide) ?_
  refine r_icmp_eq (tgt := 60) X dX1_ask_6 (by decide) h (fun c19 h => ?_) (fun c19 h => ?_)
  · refine r_iconst X dX1_ask_60 ?_
    cases h
    exact V.widen (by decide) (by decide) <| r_iret X hr dX1_ask_61
  · refine r_iload_n X 1 dX1_ask_9 rfl rfl ?_
    obtain ⟨c20, h⟩ := ck_some h
    refine r_i2l X dX1_ask_10 c20 ?_
    refine r_lconst (y := 0) X dX1_ask_11 rfl ?_
    refine r_ldc2 (z := 999) X q917 dX1_ask_12 rfl ?_
    obtain ⟨r22, h21, h⟩ := bd_some h
    refine r_cS (Wd := 0) X (fun l D sz => w_X1_isIn l D sz h21) q414 q413 q104 q415 hy_X1_isIn rfl dX1_ask_15 rfl rfl (Nat.le_of_ble_eq_true rfl) ⟨Nat.le_of_ble_eq_true rfl, Nat.le_of_ble_eq_true rfl⟩ ⟨Nat.le_of_ble_eq_true rfl, Nat.le_of_ble_eq_true rfl⟩ ?_
    refine r_if_eq (tgt := 60) X dX1_ask_18 (by decide) h (fun c23 h => ?_) (fun c23 h => ?_)
    · refine r_iconst X dX1_ask_60 ?_
      cases h
      exact V.widen (by decide) (by decide) <| r_iret X hr dX1_ask_61
    · refine r_aload_n X 0 dX1_ask_21 rfl rfl ?_
      refine r_iload_n X 2 dX1_ask_22 rfl rfl ?_
      refine r_iload_n X 3 dX1_ask_23 rfl rfl ?_
      refine r_iload X 4 dX1_ask_24 rfl ?_
      refine r_iload X 5 dX1_ask_26 rfl ?_
      obtain ⟨r25, h24, h⟩ := bd_some h
      refine r_cV (Wd := 0) X (fun l D sz => w_X1_isDate l D sz h24) ho0.1 rfl q790 qs24 q788 q104 q791 hy_X1_isDate rfl dX1_ask_28 rfl rfl (Nat.le_of_ble_eq_true rfl) ⟨Nat.le_of_ble_eq_true rfl, Nat.le_of_ble_eq_true rfl⟩ ⟨Nat.le_of_ble_eq_true rfl, Nat.le_of_ble_eq_true rfl⟩ ?_
      refine r_if_eq (tgt := 60) X dX1_ask_31 (by decide) h (fun c26 h => ?_) (fun c26 h => ?_)
      · refine r_iconst X dX1_ask_60 ?_
        cases h
        exact V.widen (by decide) (by decide) <| r_iret X hr dX1_ask_61
      · refine r_iload X 6 dX1_ask_34 rfl ?_
        obtain ⟨c27, h⟩ := ck_some h
        refine r_i2l X dX1_ask_36 c27 ?_
        refine r_lconst (y := 0) X dX1_ask_37 rfl ?_
        refine r_ldc2 (z := 6) X q918 dX1_ask_38 rfl ?_
        obtain ⟨r29, h28, h⟩ := bd_some h
        refine r_cS (Wd := 0) X (fun l D sz => w_X1_isIn l D sz h28) q414 q413 q104 q415 hy_X1_isIn rfl dX1_ask_41 rfl rfl (Nat.le_of_ble_eq_true rfl) ⟨Nat.le_of_ble_eq_true rfl, Nat.le_of_ble_eq_true rfl⟩ ⟨Nat.le_of_ble_eq_true rfl, Nat.le_of_ble_eq_true rfl⟩ ?_
        refine r_if_eq (tgt := 60) X dX1_ask_44 (by decide) h (fun c30 h => ?_) (fun c30 h => ?_)
        · refine r_iconst X dX1_ask_60 ?_
          cases h
          exact V.widen (by decide) (by decide) <| r_iret X hr dX1_ask_61
        · refine r_iload X 7 dX1_ask_47 rfl ?_
          obtain ⟨c31, h⟩ := ck_some h
          refine r_i2l X dX1_ask_49 c31 ?_
          refine r_lconst (y := 0) X dX1_ask_50 rfl ?_
          refine r_ldc2 (z := 9999) X q822 dX1_ask_51 rfl ?_
          obtain ⟨r33, h32, h⟩ := bd_some h
          refine r_cS (Wd := 0) X (fun l D sz => w_X1_isIn l D sz h32) q414 q413 q104 q415 hy_X1_isIn rfl dX1_ask_54 rfl rfl (Nat.le_of_ble_eq_true rfl) ⟨Nat.le_of_ble_eq_true rfl, Nat.le_of_ble_eq_true rfl⟩ ⟨Nat.le_of_ble_eq_true rfl, Nat.le_of_ble_eq_true rfl⟩ ?_
          refine r_if_ne (tgt := 62) X dX1_ask_57 (by decide) h (fun c34 h => ?_) (fun c34 h => ?_)
          · refine r_iconst X dX1_ask_60 ?_
            cases h
            exact V.widen (by decide) (by decide) <| r_iret X hr dX1_ask_61
          · refine r_aload_n X 0 dX1_ask_62 rfl rfl ?_
            refine r_getI (kf := 13) X ho0.1 rfl (by decide) rfl (Or.inl q320) dX1_ask_63 ?_
            refine r_if_le (tgt := 89) X dX1_ask_66 (by decide) h (fun c35 h => ?_) (fun c35 h => ?_)
            · refine r_iload_n X 1 dX1_ask_69 rfl rfl ?_
              refine r_aload_n X 0 dX1_ask_70 rfl rfl ?_
              refine r_getA (kf := 12) X ho0.1 rfl (by decide) (by decide) (Or.inl q319) dX1_ask_71 ?_
              refine r_aload_n X 0 dX1_ask_74 rfl rfl ?_
              refine r_getI (kf := 13) X ho0.1 rfl (by decide) rfl (Or.inl q320) dX1_ask_75 ?_
              refine r_iconst X dX1_ask_78 ?_
              refine r_isub X dX1_ask_79 ?_
              refine r_aald X ho0.1 (ho0.2 12 (by decide)) rfl rfl (by decide) rfl (by decide) dX1_ask_80 h (fun b36 h => ?_)
              obtain ⟨ho37, h⟩ := cO_some h
              refine r_getI (kf := 0) X ho37.1 rfl (by decide) rfl (Or.inr ⟨_, q925⟩) dX1_ask_81 ?_
              refine r_icmp_ge (tgt := 89) X dX1_ask_84 (by decide) h (fun c38 h => ?_) (fun c38 h => ?_)
              · refine r_iconst X dX1_ask_87 ?_
                cases h
                exact V.widen (by decide) (by decide) <| r_iret X hr dX1_ask_88
              · exact V.sub [0, 1, 2, 3, 4, 5, 6, 7] rfl (J89 (σ) h)
            · exact V.sub [0, 1, 2, 3, 4, 5, 6, 7] rfl (J89 (σ) h)
theorem hy_X1_asked : yX1_asked.cls ≠ "java/lang/invoke/MethodHandle" ∧ yX1_asked.cls ≠ "java/lang/invoke/VarHandle" ∧ (parseMethodDescriptor yX1_asked.desc).map (fun d => d.parameters.length) = some 2 := by decide +kernel
set_option maxHeartbeats 4000000 in
theorem w_X1_asked (l : Launch) (D : DD) (sz : Nat) {σ : St} {a0 : Nat} {x1 : Int} {x2 : Int} {w : Int} (h : f_X1_asked σ a0 x1 x2 = some w) : Mt l yX1_asked cX1_asked 4 (some FieldType.int) ({ frames := 1, cells := 0, slots := 0, locals := 17 } : Room) D sz σ [.ref a0, iv (x1), iv (x2)] (.returned (some (iv w))) (σ) 0 0 := by
  refine Mt.of (by decide +kernel) (Nat.le_of_ble_eq_true rfl) ?_
  intro Γ X hr hnl hini hnoh
  have X : Cx Γ cX1_asked "DayBoy" _ := X
  have hL : ∀ i, i < 4 → i < nLc Γ := fun i q => by rw [hnl]; exact q
  show V Γ σ 0 0 0 [(0, .ref (a0)), (1, iv (x1)), (2, iv (x2))] []
  unfold f_X1_asked at h
  obtain ⟨ho0, h⟩ := cO_some h
  refine r_iload_n X 1 dX1_asked_0 rfl rfl ?_
  obtain ⟨c1, h⟩ := ck_some h
  refine r_i2l X dX1_asked_1 c1 ?_
  refine r_lconst (y := 0) X dX1_asked_2 rfl ?_
  refine r_aload_n X 0 dX1_asked_3 rfl rfl ?_
  refine r_getI (kf := 13) X ho0.1 rfl (by decide) rfl (Or.inl q320) dX1_asked_4 ?_
  refine r_iconst X dX1_asked_7 ?_
  refine r_isub X dX1_asked_8 ?_
  obtain ⟨c2, h⟩ := ck_some h
  refine r_i2l X dX1_asked_9 c2 ?_
  obtain ⟨r4, h3, h⟩ := bd_some h
  refine r_cS (Wd := 0) X (fun l D sz => w_X1_isIn l D sz h3) q414 q413 q104 q415 hy_X1_isIn rfl dX1_asked_10 rfl rfl (Nat.le_of_ble_eq_true rfl) ⟨Nat.le_of_ble_eq_true rfl, Nat.le_of_ble_eq_true rfl⟩ ⟨Nat.le_of_ble_eq_true rfl, Nat.le_of_ble_eq_true rfl⟩ ?_
  refine r_if_eq (tgt := 28) X dX1_asked_13 (by decide) h (fun c5 h => ?_) (fun c5 h => ?_)
  · refine r_sipush X dX1_asked_28 (by decide) ?_
    cases h
    exact r_iret X hr dX1_asked_31
  · refine r_iload_n X 2 dX1_asked_16 rfl rfl ?_
    obtain ⟨c6, h⟩ := ck_some h
    refine r_i2l X dX1_asked_17 c6 ?_
    refine r_lconst (y := 0) X dX1_asked_18 rfl ?_
    refine r_ldc2 (z := 5) X q961 dX1_asked_19 rfl ?_
    obtain ⟨r8, h7, h⟩ := bd_some h
    refine r_cS (Wd := 0) X (fun l D sz => w_X1_isIn l D sz h7) q414 q413 q104 q415 hy_X1_isIn rfl dX1_asked_22 rfl rfl (Nat.le_of_ble_eq_true rfl) ⟨Nat.le_of_ble_eq_true rfl, Nat.le_of_ble_eq_true rfl⟩ ⟨Nat.le_of_ble_eq_true rfl, Nat.le_of_ble_eq_true rfl⟩ ?_
    refine r_if_ne (tgt := 32) X dX1_asked_25 (by decide) h (fun c9 h => ?_) (fun c9 h => ?_)
    · refine r_sipush X dX1_asked_28 (by decide) ?_
      cases h
      exact r_iret X hr dX1_asked_31
    · refine r_aload_n X 0 dX1_asked_32 rfl rfl ?_
      refine r_getA (kf := 12) X ho0.1 rfl (by decide) (by decide) (Or.inl q319) dX1_asked_33 ?_
      refine r_iload_n X 1 dX1_asked_36 rfl rfl ?_
      refine r_aald X ho0.1 (ho0.2 12 (by decide)) rfl rfl (by decide) rfl (by decide) dX1_asked_37 h (fun b10 h => ?_)
      refine r_astore_n X dX1_asked_38 rfl (hL 3 (by decide)) (lv' := [(3, .ref (b10)), (0, .ref (a0)), (1, iv (x1)), (2, iv (x2))]) rfl ?_
      refine r_iload_n X 3 dX1_asked_39 rfl rfl ?_
      obtain ⟨hrc21, -, hA, h⟩ := cEq_some h
      by_cases c21 : (x2) = 0
      · have h := hA c21
        refine r_tabIn (tgt := 76) X dX1_asked_40 hrc21 0 c21 (by decide) (by decide) rfl (by decide) ?_
        refine r_aload_n X 0 dX1_asked_76 rfl rfl ?_
        obtain ⟨ho12, h⟩ := cO_some h
        refine r_getI (kf := 0) X ho12.1 rfl (by decide) rfl (Or.inr ⟨_, q925⟩) dX1_asked_77 ?_
        cases h
        exact r_iret X hr dX1_asked_80
      have h := h c21
      obtain ⟨hrc22, -, hA, h⟩ := cEq_some h
      by_cases c22 : (x2) = 1
      · have h := hA c22
        refine r_tabIn (tgt := 81) X dX1_asked_40 hrc22 1 c22 (by decide) (by decide) rfl (by decide) ?_
        refine r_aload_n X 0 dX1_asked_81 rfl rfl ?_
        obtain ⟨ho13, h⟩ := cO_some h
        refine r_getI (kf := 1) X ho13.1 rfl (by decide) rfl (Or.inr ⟨_, q927⟩) dX1_asked_82 ?_
        cases h
        exact r_iret X hr dX1_asked_85
      have h := h c22
      obtain ⟨hrc23, -, hA, h⟩ := cEq_some h
      by_cases c23 : (x2) = 2
      · have h := hA c23
        refine r_tabIn (tgt := 86) X dX1_asked_40 hrc23 2 c23 (by decide) (by decide) rfl (by decide) ?_
        refine r_aload_n X 0 dX1_asked_86 rfl rfl ?_
        obtain ⟨ho14, h⟩ := cO_some h
        refine r_getI (kf := 5) X ho14.1 rfl (by decide) rfl (Or.inr ⟨_, q935⟩) dX1_asked_87 ?_
        cases h
        exact r_iret X hr dX1_asked_90
      have h := h c23
      obtain ⟨hrc24, -, hA, h⟩ := cEq_some h
      by_cases c24 : (x2) = 3
      · have h := hA c24
        refine r_tabIn (tgt := 91) X dX1_asked_40 hrc24 3 c24 (by decide) (by decide) rfl (by decide) ?_
        refine r_aload_n X 0 dX1_asked_91 rfl rfl ?_
        obtain ⟨ho15, h⟩ := cO_some h
        refine r_getI (kf := 6) X ho15.1 rfl (by decide) rfl (Or.inr ⟨_, q937⟩) dX1_asked_92 ?_
        cases h
        exact r_iret X hr dX1_asked_95
      have h := h c24
      obtain ⟨hrc25, -, hA, h⟩ := cEq_some h
      by_cases c25 : (x2) = 4
      · have h := hA c25
        refine r_tabIn (tgt := 96) X dX1_asked_40 hrc25 4 c25 (by decide) (by decide) rfl (by decide) ?_
        refine r_aload_n X 0 dX1_asked_96 rfl rfl ?_
        obtain ⟨ho16, h⟩ := cO_some h
        refine r_getI (kf := 7) X ho16.1 rfl (by decide) rfl (Or.inr ⟨_, q939⟩) dX1_asked_97 ?_
        cases h
        exact r_iret X hr dX1_asked_100
      have h := h c25
      refine r_tabOut (tgt := 101) X dX1_asked_40 hrc21 (by omega) (by decide) ?_
      refine r_aload_n X 0 dX1_asked_101 rfl rfl ?_
      obtain ⟨ho17, h⟩ := cO_some h
      refine r_getI (kf := 6) X ho17.1 rfl (by decide) rfl (Or.inr ⟨_, q937⟩) dX1_asked_102 ?_
      refine r_aload_n X 0 dX1_asked_105 rfl rfl ?_
      refine r_getI (kf := 5) X ho17.1 rfl (by decide) rfl (Or.inr ⟨_, q935⟩) dX1_asked_106 ?_
      refine r_bipush X dX1_asked_109 (by decide) ?_
      obtain ⟨c18, h⟩ := ck_some h
      refine r_irem X dX1_asked_111 c18 (by decide) (by decide) ?_
      obtain ⟨r20, h19, h⟩ := bd_some h
      refine r_cS (Wd := 0) X (fun l D sz => w_X1_slip l D sz h19) q905 q904 q104 q906 hy_X1_slip rfl dX1_asked_112 rfl rfl (Nat.le_of_ble_eq_true rfl) ⟨Nat.le_of_ble_eq_true rfl, Nat.le_of_ble_eq_true rfl⟩ ⟨Nat.le_of_ble_eq_true rfl, Nat.le_of_ble_eq_true rfl⟩ ?_
      cases h
      exact r_iret X hr dX1_asked_115
theorem hy_X1_isSlack : yX1_isSlack.cls ≠ "java/lang/invoke/MethodHandle" ∧ yX1_isSlack.cls ≠ "java/lang/invoke/VarHandle" ∧ (parseMethodDescriptor yX1_isSlack.desc).map (fun d => d.parameters.length) = some 1 := by decide +kernel
set_option maxHeartbeats 4000000 in
theorem w_X1_isSlack (l : Launch) (D : DD) (sz : Nat) {σ : St} {x0 : Int} {w : Int} (h : f_X1_isSlack σ x0 = some w) : Mt l yX1_isSlack cX1_isSlack 1 (some FieldType.boolean) ({ frames := 1, cells := 0, slots := 0, locals := 17 } : Room) D sz σ [iv (x0)] (.returned (some (iv w))) (σ) 0 0 := by
  refine Mt.of (by decide +kernel) (Nat.le_of_ble_eq_true rfl) ?_
  intro Γ X hr hnl hini hnoh
  have X : Cx Γ cX1_isSlack "DayBoy" _ := X
  have hL : ∀ i, i < 1 → i < nLc Γ := fun i q => by rw [hnl]; exact q
  show V Γ σ 0 0 0 [(0, iv (x0))] []
  unfold f_X1_isSlack at h
  refine r_iload_n X 0 dX1_isSlack_0 rfl rfl ?_
  obtain ⟨c1, h⟩ := ck_some h
  refine r_i2l X dX1_isSlack_1 c1 ?_
  refine r_lconst (y := 0) X dX1_isSlack_2 rfl ?_
  refine r_ldc2 (z := 999) X q917 dX1_isSlack_3 rfl ?_
  obtain ⟨r3, h2, h⟩ := bd_some h
  refine r_cS (Wd := 0) X (fun l D sz => w_X1_isIn l D sz h2) q414 q413 q104 q415 hy_X1_isIn rfl dX1_isSlack_6 rfl rfl (Nat.le_of_ble_eq_true rfl) ⟨Nat.le_of_ble_eq_true rfl, Nat.le_of_ble_eq_true rfl⟩ ⟨Nat.le_of_ble_eq_true rfl, Nat.le_of_ble_eq_true rfl⟩ ?_
  obtain ⟨c4, h⟩ := ck_some h
  cases h
  exact r_zret X hr (c4) dX1_isSlack_9
theorem hy_X1_isSo : yX1_isSo.cls ≠ "java/lang/invoke/MethodHandle" ∧ yX1_isSo.cls ≠ "java/lang/invoke/VarHandle" ∧ (parseMethodDescriptor yX1_isSo.desc).map (fun d => d.parameters.length) = some 3 := by decide +kernel
set_option maxHeartbeats 4000000 in
theorem w_X1_isSo (l : Launch) (D : DD) (sz : Nat) {σ : St} {a0 : Nat} {p1 : Nat} {p2 : Nat} {x3 : Int} {w : Int × St} (h : f_X1_isSo σ a0 p1 p2 x3 = some w) : Mt l yX1_isSo cX1_isSo 5 (some FieldType.boolean) ({ frames := 9, cells := 0, slots := 0, locals := 138 } : Room) D sz σ [.ref a0, .ref (p1), .ref (p2), iv (x3)] (.returned (some (iv w.1))) (w.2) 0 0 := by
  refine Mt.of (by decide +kernel) (Nat.le_of_ble_eq_true rfl) ?_
  intro Γ X hr hnl hini hnoh
  have X : Cx Γ cX1_isSo "DayBoy" _ := X
  have hL : ∀ i, i < 5 → i < nLc Γ := fun i q => by rw [hnl]; exact q
  show V Γ σ 0 0 0 [(0, .ref (a0)), (1, .ref (p1)), (2, .ref (p2)), (3, iv (x3))] []
  unfold f_X1_isSo at h
  obtain ⟨ho0, h⟩ := cO_some h
  refine r_aload_n X 0 dX1_isSo_0 rfl rfl ?_
  refine r_getA (kf := 4) X ho0.1 rfl (by decide) (by decide) (Or.inl q310) dX1_isSo_1 ?_
  refine r_aload_n X 2 dX1_isSo_4 rfl rfl ?_
  obtain ⟨ho1, h⟩ := cO_some h
  refine r_getI (kf := 1) X ho1.1 rfl (by decide) rfl (Or.inr ⟨_, q927⟩) dX1_isSo_5 ?_
  refine r_aald X ho0.1 (ho0.2 4 (by decide)) rfl rfl (by decide) rfl (by decide) dX1_isSo_8 h (fun b2 h => ?_)
  refine r_astore X dX1_isSo_9 (hL 4 (by decide)) (lv' := [(4, .ref (b2)), (0, .ref (a0)), (1, .ref (p1)), (2, .ref (p2)), (3, iv (x3))]) rfl ?_
  refine r_aload_n X 1 dX1_isSo_11 rfl rfl ?_
  refine r_aload_n X 2 dX1_isSo_12 rfl rfl ?_
  refine r_aload X 0 dX1_isSo_13 rfl ?_
  refine r_aload_n X 3 dX1_isSo_15 rfl rfl ?_
  refine r_getI (kf := 2) X ho1.1 rfl (by decide) rfl (Or.inr ⟨_, q929⟩) dX1_isSo_16 ?_
  refine r_aload_n X 3 dX1_isSo_19 rfl rfl ?_
  refine r_getI (kf := 3) X ho1.1 rfl (by decide) rfl (Or.inr ⟨_, q931⟩) dX1_isSo_20 ?_
  obtain ⟨r4, σ5, h3, h⟩ := bd2_some h
  refine r_cV (Wd := 0) X (fun l D sz => w_X1_hasWay l D sz h3) ho0.1 rfl q856 qs28 q854 q104 q857 hy_X1_hasWay rfl dX1_isSo_23 rfl rfl (Nat.le_of_ble_eq_true rfl) ⟨Nat.le_of_ble_eq_true rfl, Nat.le_of_ble_eq_true rfl⟩ ⟨Nat.le_of_ble_eq_true rfl, Nat.le_of_ble_eq_true rfl⟩ ?_
  refine r_if_eq (tgt := 54) X dX1_isSo_26 (by decide) h (fun c6 h => ?_) (fun c6 h => ?_)
  · refine r_iconst X dX1_isSo_54 ?_
    cases h
    exact r_zret X hr (by decide) dX1_isSo_55
  · refine r_aload_n X 2 dX1_isSo_29 rfl rfl ?_
    refine r_aload X 0 dX1_isSo_30 rfl ?_
    refine r_aload_n X 3 dX1_isSo_32 rfl rfl ?_
    obtain ⟨ho8, h⟩ := cO_some h
    refine r_getI (kf := 2) X ho8.1 rfl (by decide) rfl (Or.inr ⟨_, q929⟩) dX1_isSo_33 ?_
    refine r_aload_n X 3 dX1_isSo_36 rfl rfl ?_
    refine r_getI (kf := 3) X ho8.1 rfl (by decide) rfl (Or.inr ⟨_, q931⟩) dX1_isSo_37 ?_
    refine r_aload_n X 3 dX1_isSo_40 rfl rfl ?_
    refine r_getI (kf := 4) X ho8.1 rfl (by decide) rfl (Or.inr ⟨_, q933⟩) dX1_isSo_41 ?_
    obtain ⟨r10, σ11, h9, h⟩ := bd2_some h
    refine r_cS (Wd := 0) X (fun l D sz => w_X1_answerOf l D sz h9) q897 q896 q104 q898 hy_X1_answerOf rfl dX1_isSo_44 rfl rfl (Nat.le_of_ble_eq_true rfl) ⟨Nat.le_of_ble_eq_true rfl, Nat.le_of_ble_eq_true rfl⟩ ⟨Nat.le_of_ble_eq_true rfl, Nat.le_of_ble_eq_true rfl⟩ ?_
    refine r_aload_n X 3 dX1_isSo_47 rfl rfl ?_
    obtain ⟨ho12, h⟩ := cO_some h
    refine r_getI (kf := 6) X ho12.1 rfl (by decide) rfl (Or.inr ⟨_, q937⟩) dX1_isSo_48 ?_
    refine r_icmp_eq (tgt := 56) X dX1_isSo_51 (by decide) h (fun c13 h => ?_) (fun c13 h => ?_)
    · refine r_aload_n X 2 dX1_isSo_56 rfl rfl ?_
      refine r_aload X 0 dX1_isSo_57 rfl ?_
      refine r_aload_n X 3 dX1_isSo_59 rfl rfl ?_
      refine r_getI (kf := 2) X ho12.1 rfl (by decide) rfl (Or.inr ⟨_, q929⟩) dX1_isSo_60 ?_
      refine r_aload_n X 3 dX1_isSo_63 rfl rfl ?_
      refine r_getI (kf := 3) X ho12.1 rfl (by decide) rfl (Or.inr ⟨_, q931⟩) dX1_isSo_64 ?_
      refine r_aload_n X 3 dX1_isSo_67 rfl rfl ?_
      refine r_getI (kf := 4) X ho12.1 rfl (by decide) rfl (Or.inr ⟨_, q933⟩) dX1_isSo_68 ?_
      obtain ⟨r15, σ16, h14, h⟩ := bd2_some h
      refine r_cS (Wd := 0) X (fun l D sz => w_X1_tenthsOf l D sz h14) q901 q900 q104 q902 hy_X1_tenthsOf rfl dX1_isSo_71 rfl rfl (Nat.le_of_ble_eq_true rfl) ⟨Nat.le_of_ble_eq_true rfl, Nat.le_of_ble_eq_true rfl⟩ ⟨Nat.le_of_ble_eq_true rfl, Nat.le_of_ble_eq_true rfl⟩ ?_
      refine r_aload_n X 3 dX1_isSo_74 rfl rfl ?_
      obtain ⟨ho17, h⟩ := cO_some h
      refine r_getI (kf := 7) X ho17.1 rfl (by decide) rfl (Or.inr ⟨_, q939⟩) dX1_isSo_75 ?_
      refine r_isub X dX1_isSo_78 ?_
      obtain ⟨r19, h18, h⟩ := bd_some h
      refine r_cS (Wd := 0) X (fun l D sz => w_J3_abs l D sz h18) q978 q977 q115 q979 hy_J3_abs rfl dX1_isSo_79 rfl rfl (Nat.le_of_ble_eq_true rfl) ⟨Nat.le_of_ble_eq_true rfl, Nat.le_of_ble_eq_true rfl⟩ ⟨Nat.le_of_ble_eq_true rfl, Nat.le_of_ble_eq_true rfl⟩ ?_
      refine r_iload_n X 4 dX1_isSo_82 rfl rfl ?_
      refine r_icmp_gt (tgt := 90) X dX1_isSo_83 (by decide) h (fun c20 h => ?_) (fun c20 h => ?_)
      · refine r_iconst X dX1_isSo_90 ?_
        cases h
        exact r_zret X hr (by decide) dX1_isSo_91
      · refine r_iconst X dX1_isSo_86 ?_
        refine r_goto (tgt := 91) X dX1_isSo_87 (by decide) ?_
        cases h
        exact r_zret X hr (by decide) dX1_isSo_91
    · refine r_iconst X dX1_isSo_54 ?_
      cases h
      exact r_zret X hr (by decide) dX1_isSo_55
theorem hy_X1_soMany : yX1_soMany.cls ≠ "java/lang/invoke/MethodHandle" ∧ yX1_soMany.cls ≠ "java/lang/invoke/VarHandle" ∧ (parseMethodDescriptor yX1_soMany.desc).map (fun d => d.parameters.length) = some 2 := by decide +kernel
set_option maxHeartbeats 4000000 in
theorem w_X1_soMany (l : Launch) (D : DD) (sz : Nat) {σ : St} {a0 : Nat} {p1 : Nat} {x2 : Int} {w : Int × St} (h : f_X1_soMany σ a0 p1 x2 = some w) : Mt l yX1_soMany cX1_soMany 5 (some FieldType.int) ({ frames := 10, cells := 0, slots := 0, locals := 155 } : Room) D sz σ [.ref a0, .ref (p1), iv (x2)] (.returned (some (iv w.1))) (w.2) 0 0 := by
  refine Mt.of (by decide +kernel) (Nat.le_of_ble_eq_true rfl) ?_
  intro Γ X hr hnl hini hnoh
  have X : Cx Γ cX1_soMany "DayBoy" _ := X
  have hL : ∀ i, i < 5 → i < nLc Γ := fun i q => by rw [hnl]; exact q
  show V Γ σ 0 0 0 [(0, .ref (a0)), (1, .ref (p1)), (2, iv (x2))] []
  unfold f_X1_soMany at h
  obtain ⟨ho0, h⟩ := cO_some h
  refine r_iconst X dX1_soMany_0 ?_
  refine r_istore_n X dX1_soMany_1 rfl (hL 3 (by decide)) (lv' := [(3, iv (0)), (0, .ref (a0)), (1, .ref (p1)), (2, iv (x2))]) rfl ?_
  refine r_iconst X dX1_soMany_2 ?_
  refine r_istore X dX1_soMany_3 (hL 4 (by decide)) (lv' := [(4, iv (0)), (3, iv (0)), (0, .ref (a0)), (1, .ref (p1)), (2, iv (x2))]) rfl ?_
  have L5 : ∀ s : Int × Int × St, lp (fun s => f_X1_soMany_b5 (a0) (p1) (x2) s.1 s.2.1 s.2.2) s = some w → V Γ (s.2.2) 0 0 5 [(0, .ref (a0)), (1, .ref (p1)), (2, iv (x2)), (3, iv (s.1)), (4, iv (s.2.1))] [] := by
    refine lp_rule (P := fun s : Int × Int × St => V Γ (s.2.2) 0 0 5 [(0, .ref (a0)), (1, .ref (p1)), (2, iv (x2)), (3, iv (s.1)), (4, iv (s.2.1))] []) ?_
    intro s z1 h ihb1 ihe1
    obtain ⟨v3_1, v4_1, σ_1⟩ := s
    have h : f_X1_soMany_b5 (a0) (p1) (x2) v3_1 v4_1 σ_1 = some z1 := h
    unfold f_X1_soMany_b5 at h
    show V Γ σ_1 0 0 5 [(0, .ref (a0)), (1, .ref (p1)), (2, iv (x2)), (3, iv (v3_1)), (4, iv (v4_1))] []
    refine r_iload X 4 dX1_soMany_5 rfl ?_
    refine r_aload_n X 0 dX1_soMany_7 rfl rfl ?_
    obtain ⟨ho1, h⟩ := cO_some h
    refine r_getI (kf := 13) X ho1.1 rfl (by decide) rfl (Or.inl q320) dX1_soMany_8 ?_
    refine r_icmp_ge (tgt := 44) X dX1_soMany_11 (by decide) h (fun c2 h => ?_) (fun c2 h => ?_)
    · refine r_iload_n X 3 dX1_soMany_14 rfl rfl ?_
      refine r_aload_n X 0 dX1_soMany_15 rfl rfl ?_
      refine r_aload_n X 1 dX1_soMany_16 rfl rfl ?_
      refine r_aload_n X 0 dX1_soMany_17 rfl rfl ?_
      refine r_getA (kf := 12) X ho1.1 rfl (by decide) (by decide) (Or.inl q319) dX1_soMany_18 ?_
      refine r_iload X 4 dX1_soMany_21 rfl ?_
      refine r_aald X ho1.1 (ho1.2 12 (by decide)) rfl rfl (by decide) rfl (by decide) dX1_soMany_23 h (fun b3 h => ?_)
      refine r_iload_n X 2 dX1_soMany_24 rfl rfl ?_
      obtain ⟨r5, σ6, h4, h⟩ := bd2_some h
      refine r_cV (Wd := 1) X (fun l D sz => w_X1_isSo l D sz h4) ho1.1 rfl q975 qs31 q973 q104 q976 hy_X1_isSo rfl dX1_soMany_25 rfl rfl (Nat.le_of_ble_eq_true rfl) ⟨Nat.le_of_ble_eq_true rfl, Nat.le_of_ble_eq_true rfl⟩ ⟨Nat.le_of_ble_eq_true rfl, Nat.le_of_ble_eq_true rfl⟩ ?_
      refine r_if_eq (tgt := 35) X dX1_soMany_28 (by decide) h (fun c7 h => ?_) (fun c7 h => ?_)
      · refine r_iconst X dX1_soMany_35 ?_
        refine r_iadd X dX1_soMany_36 ?_
        refine r_istore_n X dX1_soMany_37 rfl (hL 3 (by decide)) (lv' := [(3, iv ((v3_1 + 0))), (0, .ref (a0)), (1, .ref (p1)), (2, iv (x2)), (4, iv (v4_1))]) rfl ?_
        refine r_iinc X 4 dX1_soMany_38 rfl (hL 4 (by decide)) (lv' := [(4, iv ((v4_1 + 1))), (3, iv ((v3_1 + 0))), (0, .ref (a0)), (1, .ref (p1)), (2, iv (x2))]) rfl ?_
        refine r_goto (tgt := 5) X dX1_soMany_41 (by decide) ?_
        exact V.sub [2, 3, 4, 1, 0] rfl (ihb1 _ (Option.some.inj h).symm)
      · refine r_iconst X dX1_soMany_31 ?_
        refine r_goto (tgt := 36) X dX1_soMany_32 (by decide) ?_
        refine r_iadd X dX1_soMany_36 ?_
        refine r_istore_n X dX1_soMany_37 rfl (hL 3 (by decide)) (lv' := [(3, iv ((v3_1 + 1))), (0, .ref (a0)), (1, .ref (p1)), (2, iv (x2)), (4, iv (v4_1))]) rfl ?_
        refine r_iinc X 4 dX1_soMany_38 rfl (hL 4 (by decide)) (lv' := [(4, iv ((v4_1 + 1))), (3, iv ((v3_1 + 1))), (0, .ref (a0)), (1, .ref (p1)), (2, iv (x2))]) rfl ?_
        refine r_goto (tgt := 5) X dX1_soMany_41 (by decide) ?_
        exact V.sub [2, 3, 4, 1, 0] rfl (ihb1 _ (Option.some.inj h).symm)
    · have h := ex_some h ihe1
      refine r_iload_n X 3 dX1_soMany_44 rfl rfl ?_
      cases h
      exact r_iret X hr dX1_soMany_45
  exact V.sub [2, 3, 4, 1, 0] rfl (L5 (0, 0, σ) h)
theorem hy_X1_fits : yX1_fits.cls ≠ "java/lang/invoke/MethodHandle" ∧ yX1_fits.cls ≠ "java/lang/invoke/VarHandle" ∧ (parseMethodDescriptor yX1_fits.desc).map (fun d => d.parameters.length) = some 1 := by decide +kernel
set_option maxHeartbeats 4000000 in
theorem w_X1_fits (l : Launch) (D : DD) (sz : Nat) {σ : St} {a0 : Nat} {x1 : Int} {w : Int × St} (h : f_X1_fits σ a0 x1 = some w) : Mt l yX1_fits cX1_fits 4 (some FieldType.int) ({ frames := 11, cells := 0, slots := 0, locals := 172 } : Room) D sz σ [.ref a0, iv (x1)] (.returned (some (iv w.1))) (w.2) 0 0 := by
  refine Mt.of (by decide +kernel) (Nat.le_of_ble_eq_true rfl) ?_
  intro Γ X hr hnl hini hnoh
  have X : Cx Γ cX1_fits "DayBoy" _ := X
  have hL : ∀ i, i < 4 → i < nLc Γ := fun i q => by rw [hnl]; exact q
  show V Γ σ 0 0 0 [(0, .ref (a0)), (1, iv (x1))] []
  unfold f_X1_fits at h
  obtain ⟨ho0, h⟩ := cO_some h
  refine r_iload_n X 1 dX1_fits_0 rfl rfl ?_
  obtain ⟨r2, h1, h⟩ := bd_some h
  refine r_cS (Wd := 0) X (fun l D sz => w_X1_isSlack l D sz h1) q967 q966 q104 q968 hy_X1_isSlack rfl dX1_fits_1 rfl rfl (Nat.le_of_ble_eq_true rfl) ⟨Nat.le_of_ble_eq_true rfl, Nat.le_of_ble_eq_true rfl⟩ ⟨Nat.le_of_ble_eq_true rfl, Nat.le_of_ble_eq_true rfl⟩ ?_
  refine r_if_ne (tgt := 9) X dX1_fits_4 (by decide) h (fun c3 h => ?_) (fun c3 h => ?_)
  · refine r_iconst X dX1_fits_7 ?_
    cases h
    exact r_iret X hr dX1_fits_8
  · refine r_iconst X dX1_fits_9 ?_
    refine r_istore_n X dX1_fits_10 rfl (hL 2 (by decide)) (lv' := [(2, iv (0)), (0, .ref (a0)), (1, iv (x1))]) rfl ?_
    refine r_iconst X dX1_fits_11 ?_
    refine r_istore_n X dX1_fits_12 rfl (hL 3 (by decide)) (lv' := [(3, iv (0)), (2, iv (0)), (0, .ref (a0)), (1, iv (x1))]) rfl ?_
    have L13 : ∀ s : Int × Int × St, lp (fun s => f_X1_fits_b13 (a0) (x1) s.1 s.2.1 s.2.2) s = some w → V Γ (s.2.2) 0 0 13 [(0, .ref (a0)), (1, iv (x1)), (2, iv (s.1)), (3, iv (s.2.1))] [] := by
      refine lp_rule (P := fun s : Int × Int × St => V Γ (s.2.2) 0 0 13 [(0, .ref (a0)), (1, iv (x1)), (2, iv (s.1)), (3, iv (s.2.1))] []) ?_
      intro s z1 h ihb1 ihe1
      obtain ⟨v2_1, v3_1, σ_1⟩ := s
      have h : f_X1_fits_b13 (a0) (x1) v2_1 v3_1 σ_1 = some z1 := h
      unfold f_X1_fits_b13 at h
      show V Γ σ_1 0 0 13 [(0, .ref (a0)), (1, iv (x1)), (2, iv (v2_1)), (3, iv (v3_1))] []
      refine r_iload_n X 3 dX1_fits_13 rfl rfl ?_
      refine r_aload_n X 0 dX1_fits_14 rfl rfl ?_
      obtain ⟨ho4, h⟩ := cO_some h
      refine r_getI (kf := 7) X ho4.1 rfl (by decide) rfl (Or.inl q313) dX1_fits_15 ?_
      refine r_icmp_ge (tgt := 55) X dX1_fits_18 (by decide) h (fun c5 h => ?_) (fun c5 h => ?_)
      · refine r_iload_n X 2 dX1_fits_21 rfl rfl ?_
        refine r_aload_n X 0 dX1_fits_22 rfl rfl ?_
        refine r_aload_n X 0 dX1_fits_23 rfl rfl ?_
        refine r_getA (kf := 5) X ho4.1 rfl (by decide) (by decide) (Or.inl q311) dX1_fits_24 ?_
        refine r_iload_n X 3 dX1_fits_27 rfl rfl ?_
        refine r_aald X ho4.1 (ho4.2 5 (by decide)) rfl rfl (by decide) rfl (by decide) dX1_fits_28 h (fun b6 h => ?_)
        refine r_iload_n X 1 dX1_fits_29 rfl rfl ?_
        obtain ⟨r8, σ9, h7, h⟩ := bd2_some h
        refine r_cV (Wd := 1) X (fun l D sz => w_X1_soMany l D sz h7) ho4.1 rfl q971 qs30 q969 q104 q972 hy_X1_soMany rfl dX1_fits_30 rfl rfl (Nat.le_of_ble_eq_true rfl) ⟨Nat.le_of_ble_eq_true rfl, Nat.le_of_ble_eq_true rfl⟩ ⟨Nat.le_of_ble_eq_true rfl, Nat.le_of_ble_eq_true rfl⟩ ?_
        refine r_aload_n X 0 dX1_fits_33 rfl rfl ?_
        obtain ⟨ho10, h⟩ := cO_some h
        refine r_getI (kf := 13) X ho10.1 rfl (by decide) rfl (Or.inl q320) dX1_fits_34 ?_
        refine r_icmp_ne (tgt := 46) X dX1_fits_37 (by decide) h (fun c11 h => ?_) (fun c11 h => ?_)
        · refine r_iconst X dX1_fits_40 ?_
          refine r_iload_n X 3 dX1_fits_41 rfl rfl ?_
          refine r_ishl X dX1_fits_42 ?_
          refine r_goto (tgt := 47) X dX1_fits_43 (by decide) ?_
          refine r_ior X dX1_fits_47 ?_
          refine r_istore_n X dX1_fits_48 rfl (hL 2 (by decide)) (lv' := [(2, iv ((bOr (v2_1) ((bShl (1) (v3_1)))))), (0, .ref (a0)), (1, iv (x1)), (3, iv (v3_1))]) rfl ?_
          refine r_iinc X 3 dX1_fits_49 rfl (hL 3 (by decide)) (lv' := [(3, iv ((v3_1 + 1))), (2, iv ((bOr (v2_1) ((bShl (1) (v3_1)))))), (0, .ref (a0)), (1, iv (x1))]) rfl ?_
          refine r_goto (tgt := 13) X dX1_fits_52 (by decide) ?_
          exact V.sub [2, 3, 1, 0] rfl (ihb1 _ (Option.some.inj h).symm)
        · refine r_iconst X dX1_fits_46 ?_
          refine r_ior X dX1_fits_47 ?_
          refine r_istore_n X dX1_fits_48 rfl (hL 2 (by decide)) (lv' := [(2, iv ((bOr (v2_1) (0)))), (0, .ref (a0)), (1, iv (x1)), (3, iv (v3_1))]) rfl ?_
          refine r_iinc X 3 dX1_fits_49 rfl (hL 3 (by decide)) (lv' := [(3, iv ((v3_1 + 1))), (2, iv ((bOr (v2_1) (0)))), (0, .ref (a0)), (1, iv (x1))]) rfl ?_
          refine r_goto (tgt := 13) X dX1_fits_52 (by decide) ?_
          exact V.sub [2, 3, 1, 0] rfl (ihb1 _ (Option.some.inj h).symm)
      · have h := ex_some h ihe1
        refine r_iload_n X 2 dX1_fits_55 rfl rfl ?_
        cases h
        exact r_iret X hr dX1_fits_56
    exact V.sub [2, 3, 1, 0] rfl (L13 (0, 0, σ) h)
theorem hy_X1_so : yX1_so.cls ≠ "java/lang/invoke/MethodHandle" ∧ yX1_so.cls ≠ "java/lang/invoke/VarHandle" ∧ (parseMethodDescriptor yX1_so.desc).map (fun d => d.parameters.length) = some 2 := by decide +kernel
set_option maxHeartbeats 4000000 in
theorem w_X1_so (l : Launch) (D : DD) (sz : Nat) {σ : St} {a0 : Nat} {x1 : Int} {x2 : Int} {w : Int × St} (h : f_X1_so σ a0 x1 x2 = some w) : Mt l yX1_so cX1_so 3 (some FieldType.int) ({ frames := 11, cells := 0, slots := 0, locals := 171 } : Room) D sz σ [.ref a0, iv (x1), iv (x2)] (.returned (some (iv w.1))) (w.2) 0 0 := by
  refine Mt.of (by decide +kernel) (Nat.le_of_ble_eq_true rfl) ?_
  intro Γ X hr hnl hini hnoh
  have X : Cx Γ cX1_so "DayBoy" _ := X
  have hL : ∀ i, i < 3 → i < nLc Γ := fun i q => by rw [hnl]; exact q
  show V Γ σ 0 0 0 [(0, .ref (a0)), (1, iv (x1)), (2, iv (x2))] []
  unfold f_X1_so at h
  obtain ⟨ho0, h⟩ := cO_some h
  refine r_aload_n X 0 dX1_so_0 rfl rfl ?_
  refine r_iload_n X 1 dX1_so_1 rfl rfl ?_
  obtain ⟨r2, h1, h⟩ := bd_some h
  refine r_cV (Wd := 0) X (fun l D sz => w_X1_isHead l D sz h1) ho0.1 rfl q852 qs27 q850 q104 q853 hy_X1_isHead rfl dX1_so_2 rfl rfl (Nat.le_of_ble_eq_true rfl) ⟨Nat.le_of_ble_eq_true rfl, Nat.le_of_ble_eq_true rfl⟩ ⟨Nat.le_of_ble_eq_true rfl, Nat.le_of_ble_eq_true rfl⟩ ?_
  refine r_if_eq (tgt := 29) X dX1_so_5 (by decide) h (fun c3 h => ?_) (fun c3 h => ?_)
  · refine r_iconst X dX1_so_29 ?_
    cases h
    exact r_iret X hr dX1_so_30
  · refine r_iload_n X 2 dX1_so_8 rfl rfl ?_
    obtain ⟨r5, h4, h⟩ := bd_some h
    refine r_cS (Wd := 0) X (fun l D sz => w_X1_isSlack l D sz h4) q967 q966 q104 q968 hy_X1_isSlack rfl dX1_so_9 rfl rfl (Nat.le_of_ble_eq_true rfl) ⟨Nat.le_of_ble_eq_true rfl, Nat.le_of_ble_eq_true rfl⟩ ⟨Nat.le_of_ble_eq_true rfl, Nat.le_of_ble_eq_true rfl⟩ ?_
    refine r_if_eq (tgt := 29) X dX1_so_12 (by decide) h (fun c6 h => ?_) (fun c6 h => ?_)
    · refine r_iconst X dX1_so_29 ?_
      cases h
      exact r_iret X hr dX1_so_30
    · refine r_aload_n X 0 dX1_so_15 rfl rfl ?_
      refine r_aload_n X 0 dX1_so_16 rfl rfl ?_
      refine r_getA (kf := 5) X ho0.1 rfl (by decide) (by decide) (Or.inl q311) dX1_so_17 ?_
      refine r_iload_n X 1 dX1_so_20 rfl rfl ?_
      refine r_aald X ho0.1 (ho0.2 5 (by decide)) rfl rfl (by decide) rfl (by decide) dX1_so_21 h (fun b7 h => ?_)
      refine r_iload_n X 2 dX1_so_22 rfl rfl ?_
      obtain ⟨r9, σ10, h8, h⟩ := bd2_some h
      refine r_cV (Wd := 0) X (fun l D sz => w_X1_soMany l D sz h8) ho0.1 rfl q971 qs30 q969 q104 q972 hy_X1_soMany rfl dX1_so_23 rfl rfl (Nat.le_of_ble_eq_true rfl) ⟨Nat.le_of_ble_eq_true rfl, Nat.le_of_ble_eq_true rfl⟩ ⟨Nat.le_of_ble_eq_true rfl, Nat.le_of_ble_eq_true rfl⟩ ?_
      refine r_goto (tgt := 30) X dX1_so_26 (by decide) ?_
      cases h
      exact r_iret X hr dX1_so_30
theorem hy_X1_further : yX1_further.cls ≠ "java/lang/invoke/MethodHandle" ∧ yX1_further.cls ≠ "java/lang/invoke/VarHandle" ∧ (parseMethodDescriptor yX1_further.desc).map (fun d => d.parameters.length) = some 1 := by decide +kernel
set_option maxHeartbeats 4000000 in
theorem w_X1_further (l : Launch) (D : DD) (sz : Nat) {σ : St} {a0 : Nat} {x1 : Int} {w : Int} (h : f_X1_further σ a0 x1 = some w) : Mt l yX1_further cX1_further 5 (some FieldType.int) ({ frames := 2, cells := 0, slots := 0, locals := 29 } : Room) D sz σ [.ref a0, iv (x1)] (.returned (some (iv w))) (σ) 0 0 := by
  refine Mt.of (by decide +kernel) (Nat.le_of_ble_eq_true rfl) ?_
  intro Γ X hr hnl hini hnoh
  have X : Cx Γ cX1_further "DayBoy" _ := X
  have hL : ∀ i, i < 5 → i < nLc Γ := fun i q => by rw [hnl]; exact q
  show V Γ σ 0 0 0 [(0, .ref (a0)), (1, iv (x1))] []
  unfold f_X1_further at h
  obtain ⟨ho0, h⟩ := cO_some h
  refine r_iload_n X 1 dX1_further_0 rfl rfl ?_
  obtain ⟨r2, h1, h⟩ := bd_some h
  refine r_cS (Wd := 0) X (fun l D sz => w_X1_isYear l D sz h1) q820 q819 q104 q821 hy_X1_isYear rfl dX1_further_1 rfl rfl (Nat.le_of_ble_eq_true rfl) ⟨Nat.le_of_ble_eq_true rfl, Nat.le_of_ble_eq_true rfl⟩ ⟨Nat.le_of_ble_eq_true rfl, Nat.le_of_ble_eq_true rfl⟩ ?_
  refine r_if_ne (tgt := 11) X dX1_further_4 (by decide) h (fun c3 h => ?_) (fun c3 h => ?_)
  · refine r_sipush X dX1_further_7 (by decide) ?_
    cases h
    exact r_iret X hr dX1_further_10
  · refine r_iconst X dX1_further_11 ?_
    refine r_istore_n X dX1_further_12 rfl (hL 2 (by decide)) (lv' := [(2, iv (0)), (0, .ref (a0)), (1, iv (x1))]) rfl ?_
    refine r_iconst X dX1_further_13 ?_
    refine r_istore_n X dX1_further_14 rfl (hL 3 (by decide)) (lv' := [(3, iv (0)), (2, iv (0)), (0, .ref (a0)), (1, iv (x1))]) rfl ?_
    have L15 : ∀ s : Int × Int, lp (fun s => f_X1_further_b15 (σ) (a0) (x1) s.1 s.2) s = some w → V Γ (σ) 0 0 15 [(0, .ref (a0)), (1, iv (x1)), (2, iv (s.1)), (3, iv (s.2))] [] := by
      refine lp_rule (P := fun s : Int × Int => V Γ (σ) 0 0 15 [(0, .ref (a0)), (1, iv (x1)), (2, iv (s.1)), (3, iv (s.2))] []) ?_
      intro s z1 h ihb1 ihe1
      obtain ⟨v2_1, v3_1⟩ := s
      have h : f_X1_further_b15 (σ) (a0) (x1) v2_1 v3_1 = some z1 := h
      unfold f_X1_further_b15 at h
      show V Γ σ 0 0 15 [(0, .ref (a0)), (1, iv (x1)), (2, iv (v2_1)), (3, iv (v3_1))] []
      refine r_iload_n X 3 dX1_further_15 rfl rfl ?_
      refine r_aload_n X 0 dX1_further_16 rfl rfl ?_
      refine r_getI (kf := 13) X ho0.1 rfl (by decide) rfl (Or.inl q320) dX1_further_17 ?_
      refine r_icmp_ge (tgt := 107) X dX1_further_20 (by decide) h (fun c4 h => ?_) (fun c4 h => ?_)
      · refine r_iconst X dX1_further_23 ?_
        refine r_istore X dX1_further_24 (hL 4 (by decide)) (lv' := [(4, iv (0)), (0, .ref (a0)), (1, iv (x1)), (2, iv (v2_1)), (3, iv (v3_1))]) rfl ?_
        have L26 : ∀ s : Int × Int, lp (fun s => f_X1_further_b26 (σ) (a0) (x1) (v3_1) s.1 s.2) s = some z1 → V Γ (σ) 0 0 26 [(0, .ref (a0)), (1, iv (x1)), (2, iv (s.1)), (3, iv (v3_1)), (4, iv (s.2))] [] := by
          refine lp_rule (P := fun s : Int × Int => V Γ (σ) 0 0 26 [(0, .ref (a0)), (1, iv (x1)), (2, iv (s.1)), (3, iv (v3_1)), (4, iv (s.2))] []) ?_
          intro s z2 h ihb2 ihe2
          obtain ⟨v2_2, v4_2⟩ := s
          have h : f_X1_further_b26 (σ) (a0) (x1) (v3_1) v2_2 v4_2 = some z2 := h
          unfold f_X1_further_b26 at h
          show V Γ σ 0 0 26 [(0, .ref (a0)), (1, iv (x1)), (2, iv (v2_2)), (3, iv (v3_1)), (4, iv (v4_2))] []
          refine r_iload X 4 dX1_further_26 rfl ?_
          refine r_aload_n X 0 dX1_further_28 rfl rfl ?_
          refine r_getI (kf := 13) X ho0.1 rfl (by decide) rfl (Or.inl q320) dX1_further_29 ?_
          refine r_icmp_ge (tgt := 101) X dX1_further_32 (by decide) h (fun c5 h => ?_) (fun c5 h => ?_)
          · refine r_aload_n X 0 dX1_further_35 rfl rfl ?_
            refine r_getA (kf := 12) X ho0.1 rfl (by decide) (by decide) (Or.inl q319) dX1_further_36 ?_
            refine r_iload_n X 3 dX1_further_39 rfl rfl ?_
            refine r_aald X ho0.1 (ho0.2 12 (by decide)) rfl rfl (by decide) rfl (by decide) dX1_further_40 h (fun b6 h => ?_)
            obtain ⟨ho7, h⟩ := cO_some h
            refine r_getI (kf := 2) X ho7.1 rfl (by decide) rfl (Or.inr ⟨_, q929⟩) dX1_further_41 ?_
            refine r_iload_n X 1 dX1_further_44 rfl rfl ?_
            refine r_isub X dX1_further_45 ?_
            obtain ⟨r9, h8, h⟩ := bd_some h
            refine r_cS (Wd := 0) X (fun l D sz => w_J3_abs l D sz h8) q978 q977 q115 q979 hy_J3_abs rfl dX1_further_46 rfl rfl (Nat.le_of_ble_eq_true rfl) ⟨Nat.le_of_ble_eq_true rfl, Nat.le_of_ble_eq_true rfl⟩ ⟨Nat.le_of_ble_eq_true rfl, Nat.le_of_ble_eq_true rfl⟩ ?_
            refine r_aload_n X 0 dX1_further_49 rfl rfl ?_
            refine r_getA (kf := 12) X ho0.1 rfl (by decide) (by decide) (Or.inl q319) dX1_further_50 ?_
            refine r_iload X 4 dX1_further_53 rfl ?_
            refine r_aald X ho0.1 (ho0.2 12 (by decide)) rfl rfl (by decide) rfl (by decide) dX1_further_55 h (fun b10 h => ?_)
            obtain ⟨ho11, h⟩ := cO_some h
            refine r_getI (kf := 2) X ho11.1 rfl (by decide) rfl (Or.inr ⟨_, q929⟩) dX1_further_56 ?_
            refine r_iload_n X 1 dX1_further_59 rfl rfl ?_
            refine r_isub X dX1_further_60 ?_
            obtain ⟨r13, h12, h⟩ := bd_some h
            refine r_cS (Wd := 1) X (fun l D sz => w_J3_abs l D sz h12) q978 q977 q115 q979 hy_J3_abs rfl dX1_further_61 rfl rfl (Nat.le_of_ble_eq_true rfl) ⟨Nat.le_of_ble_eq_true rfl, Nat.le_of_ble_eq_true rfl⟩ ⟨Nat.le_of_ble_eq_true rfl, Nat.le_of_ble_eq_true rfl⟩ ?_
            refine r_icmp_gt (tgt := 70) X dX1_further_64 (by decide) h (fun c14 h => ?_) (fun c14 h => ?_)
            · refine r_iload_n X 2 dX1_further_70 rfl rfl ?_
              refine r_aload_n X 0 dX1_further_71 rfl rfl ?_
              refine r_getA (kf := 12) X ho0.1 rfl (by decide) (by decide) (Or.inl q319) dX1_further_72 ?_
              refine r_iload_n X 3 dX1_further_75 rfl rfl ?_
              refine r_aald X ho0.1 (ho0.2 12 (by decide)) rfl rfl (by decide) rfl (by decide) dX1_further_76 h (fun b15 h => ?_)
              obtain ⟨ho16, h⟩ := cO_some h
              refine r_getI (kf := 7) X ho16.1 rfl (by decide) rfl (Or.inr ⟨_, q939⟩) dX1_further_77 ?_
              refine r_aload_n X 0 dX1_further_80 rfl rfl ?_
              refine r_getA (kf := 12) X ho0.1 rfl (by decide) (by decide) (Or.inl q319) dX1_further_81 ?_
              refine r_iload X 4 dX1_further_84 rfl ?_
              refine r_aald X ho0.1 (ho0.2 12 (by decide)) rfl rfl (by decide) rfl (by decide) dX1_further_86 h (fun b17 h => ?_)
              obtain ⟨ho18, h⟩ := cO_some h
              refine r_getI (kf := 7) X ho18.1 rfl (by decide) rfl (Or.inr ⟨_, q939⟩) dX1_further_87 ?_
              obtain ⟨r20, h19, h⟩ := bd_some h
              refine r_cS (Wd := 1) X (fun l D sz => w_J5_compare l D sz h19) q989 q988 q125 q990 hy_J5_compare rfl dX1_further_90 rfl rfl (Nat.le_of_ble_eq_true rfl) ⟨Nat.le_of_ble_eq_true rfl, Nat.le_of_ble_eq_true rfl⟩ ⟨Nat.le_of_ble_eq_true rfl, Nat.le_of_ble_eq_true rfl⟩ ?_
              refine r_iadd X dX1_further_93 ?_
              refine r_istore_n X dX1_further_94 rfl (hL 2 (by decide)) (lv' := [(2, iv ((v2_2 + r20))), (0, .ref (a0)), (1, iv (x1)), (3, iv (v3_1)), (4, iv (v4_2))]) rfl ?_
              refine r_iinc X 4 dX1_further_95 rfl (hL 4 (by decide)) (lv' := [(4, iv ((v4_2 + 1))), (2, iv ((v2_2 + r20))), (0, .ref (a0)), (1, iv (x1)), (3, iv (v3_1))]) rfl ?_
              refine r_goto (tgt := 26) X dX1_further_98 (by decide) ?_
              exact V.sub [2, 3, 1, 4, 0] rfl (ihb2 _ (Option.some.inj h).symm)
            · refine r_goto (tgt := 95) X dX1_further_67 (by decide) ?_
              refine r_iinc X 4 dX1_further_95 rfl (hL 4 (by decide)) (lv' := [(4, iv ((v4_2 + 1))), (0, .ref (a0)), (1, iv (x1)), (2, iv (v2_2)), (3, iv (v3_1))]) rfl ?_
              refine r_goto (tgt := 26) X dX1_further_98 (by decide) ?_
              exact V.sub [1, 2, 3, 4, 0] rfl (ihb2 _ (Option.some.inj h).symm)
          · have h := ex_some h ihe2
            refine r_iinc X 3 dX1_further_101 rfl (hL 3 (by decide)) (lv' := [(3, iv ((v3_1 + 1))), (0, .ref (a0)), (1, iv (x1)), (2, iv (v2_2)), (4, iv (v4_2))]) rfl ?_
            refine r_goto (tgt := 15) X dX1_further_104 (by decide) ?_
            exact V.sub [1, 2, 3, 0] rfl (ihb1 _ (Option.some.inj h).symm)
        exact V.sub [1, 2, 3, 4, 0] rfl (L26 (v2_1, 0) h)
      · have h := ex_some h ihe1
        refine r_iload_n X 2 dX1_further_107 rfl rfl ?_
        cases h
        exact r_iret X hr dX1_further_108
    exact V.sub [2, 3, 1, 0] rfl (L15 (0, 0) h)
theorem hy_X1_born : yX1_born.cls ≠ "java/lang/invoke/MethodHandle" ∧ yX1_born.cls ≠ "java/lang/invoke/VarHandle" ∧ (parseMethodDescriptor yX1_born.desc).map (fun d => d.parameters.length) = some 4 := by decide +kernel
set_option maxHeartbeats 4000000 in
theorem w_X1_born (l : Launch) (D : DD) (sz : Nat) {σ : St} {a0 : Nat} {x1 : Int} {x2 : Int} {x3 : Int} {x4 : Int} {w : Int × St} (h : f_X1_born σ a0 x1 x2 x3 x4 = some w) : Mt l yX1_born cX1_born 5 (some FieldType.boolean) ({ frames := 8, cells := 0, slots := 0, locals := 123 } : Room) D sz σ [.ref a0, iv (x1), iv (x2), iv (x3), iv (x4)] (.returned (some (iv w.1))) (w.2) 0 0 := by
  refine Mt.of (by decide +kernel) (Nat.le_of_ble_eq_true rfl) ?_
  intro Γ X hr hnl hini hnoh
  have X : Cx Γ cX1_born "DayBoy" _ := X
  have hL : ∀ i, i < 5 → i < nLc Γ := fun i q => by rw [hnl]; exact q
  show V Γ σ 0 0 0 [(0, .ref (a0)), (1, iv (x1)), (2, iv (x2)), (3, iv (x3)), (4, iv (x4))] []
  unfold f_X1_born at h
  obtain ⟨ho0, h⟩ := cO_some h
  refine r_aload_n X 0 dX1_born_0 rfl rfl ?_
  refine r_iload_n X 1 dX1_born_1 rfl rfl ?_
  refine r_iload_n X 2 dX1_born_2 rfl rfl ?_
  refine r_iload_n X 3 dX1_born_3 rfl rfl ?_
  refine r_iload X 4 dX1_born_4 rfl ?_
  obtain ⟨r2, h1, h⟩ := bd_some h
  refine r_cV (Wd := 0) X (fun l D sz => w_X1_isDate l D sz h1) ho0.1 rfl q790 qs24 q788 q104 q791 hy_X1_isDate rfl dX1_born_6 rfl rfl (Nat.le_of_ble_eq_true rfl) ⟨Nat.le_of_ble_eq_true rfl, Nat.le_of_ble_eq_true rfl⟩ ⟨Nat.le_of_ble_eq_true rfl, Nat.le_of_ble_eq_true rfl⟩ ?_
  refine r_if_ne (tgt := 14) X dX1_born_9 (by decide) h (fun c3 h => ?_) (fun c3 h => ?_)
  · refine r_iconst X dX1_born_12 ?_
    cases h
    exact r_zret X hr (by decide) dX1_born_13
  · refine r_aload_n X 0 dX1_born_14 rfl rfl ?_
    refine r_aload_n X 0 dX1_born_15 rfl rfl ?_
    refine r_getA (kf := 4) X ho0.1 rfl (by decide) (by decide) (Or.inl q310) dX1_born_16 ?_
    refine r_iload_n X 1 dX1_born_19 rfl rfl ?_
    refine r_aald X ho0.1 (ho0.2 4 (by decide)) rfl rfl (by decide) rfl (by decide) dX1_born_20 h (fun b5 h => ?_)
    refine r_iload_n X 2 dX1_born_21 rfl rfl ?_
    refine r_iload_n X 3 dX1_born_22 rfl rfl ?_
    refine r_iload X 4 dX1_born_23 rfl ?_
    obtain ⟨ho7, h⟩ := cO_some h
    obtain ⟨r8, h6, h⟩ := bd_some h
    refine r_cV (Wd := 1) X (fun l D sz => w_X2_day l D sz h6) ho7.1 rfl q811 q812 q810 q105 q813 hy_X2_day rfl dX1_born_25 rfl rfl (Nat.le_of_ble_eq_true rfl) ⟨Nat.le_of_ble_eq_true rfl, Nat.le_of_ble_eq_true rfl⟩ ⟨Nat.le_of_ble_eq_true rfl, Nat.le_of_ble_eq_true rfl⟩ ?_
    refine r_putI (kf := 14) X ho0.1 rfl (by decide) rfl rfl (Or.inl q321) dX1_born_28 rfl ?_
    refine r_let h (fun σ9 eσ9 h => ?_)
    refine r_aload_n X 0 dX1_born_31 rfl rfl ?_
    refine r_iload_n X 1 dX1_born_32 rfl rfl ?_
    have hk10 : oc σ9 (a0) 0 := by rw [eσ9]; exact ho0
    refine r_putI (kf := 15) X hk10.1 rfl (by decide) rfl rfl (Or.inl q322) dX1_born_33 rfl ?_
    refine r_let h (fun σ11 eσ11 h => ?_)
    refine r_iconst X dX1_born_36 ?_
    cases h
    exact r_zret X hr (by decide) dX1_born_37
theorem hy_X1_birthday : yX1_birthday.cls ≠ "java/lang/invoke/MethodHandle" ∧ yX1_birthday.cls ≠ "java/lang/invoke/VarHandle" ∧ (parseMethodDescriptor yX1_birthday.desc).map (fun d => d.parameters.length) = some 1 := by decide +kernel
set_option maxHeartbeats 4000000 in
theorem w_X1_birthday (l : Launch) (D : DD) (sz : Nat) {σ : St} {a0 : Nat} {x1 : Int} {w : Int} (h : f_X1_birthday σ a0 x1 = some w) : Mt l yX1_birthday cX1_birthday 6 (some FieldType.int) ({ frames := 7, cells := 0, slots := 0, locals := 107 } : Room) D sz σ [.ref a0, iv (x1)] (.returned (some (iv w))) (σ) 0 0 := by
  refine Mt.of (by decide +kernel) (Nat.le_of_ble_eq_true rfl) ?_
  intro Γ X hr hnl hini hnoh
  have X : Cx Γ cX1_birthday "DayBoy" _ := X
  have hL : ∀ i, i < 6 → i < nLc Γ := fun i q => by rw [hnl]; exact q
  show V Γ σ 0 0 0 [(0, .ref (a0)), (1, iv (x1))] []
  unfold f_X1_birthday at h
  obtain ⟨ho0, h⟩ := cO_some h
  have J103 : ∀ (v2_j103 : Nat) (v3_j103 : Int) (v4_j103 : Int) (v5_j103 : Int), f_X1_birthday_j103 (σ) (x1) v2_j103 v3_j103 v4_j103 v5_j103 = some w → V Γ σ 0 0 103 [(1, iv (x1)), (2, .ref (v2_j103)), (3, iv (v3_j103)), (4, iv (v4_j103)), (5, iv (v5_j103))] [] := by
    intro v2_j103 v3_j103 v4_j103 v5_j103 h
    unfold f_X1_birthday_j103 at h
    refine r_iload_n X 2 dX1_birthday_103 rfl rfl ?_
    refine r_sipush X dX1_birthday_104 (by decide) ?_
    refine r_iload_n X 0 dX1_birthday_107 rfl rfl ?_
    refine r_iconst X dX1_birthday_108 ?_
    refine r_iadd X dX1_birthday_109 ?_
    obtain ⟨r2, h1, h⟩ := bd_some h
    refine r_cS (Wd := 1) X (fun l D sz => w_J3_min l D sz h1) q585 q1003 q115 q586 hy_J3_min rfl dX1_birthday_110 rfl rfl (Nat.le_of_ble_eq_true rfl) ⟨Nat.le_of_ble_eq_true rfl, Nat.le_of_ble_eq_true rfl⟩ ⟨Nat.le_of_ble_eq_true rfl, Nat.le_of_ble_eq_true rfl⟩ ?_
    refine r_icmp_gt (tgt := 128) X dX1_birthday_113 (by decide) h (fun c3 h => ?_) (fun c3 h => ?_)
    · refine r_iconst X dX1_birthday_128 ?_
      cases h
      exact r_iret X hr dX1_birthday_129
    · refine r_aload_n X 1 dX1_birthday_116 rfl rfl ?_
      refine r_iload_n X 2 dX1_birthday_117 rfl rfl ?_
      refine r_iload X 3 dX1_birthday_118 rfl ?_
      refine r_iload X 4 dX1_birthday_120 rfl ?_
      obtain ⟨ho5, h⟩ := cO_some h
      obtain ⟨r6, h4, h⟩ := bd_some h
      refine r_cV (Wd := 0) X (fun l D sz => w_X2_day l D sz h4) ho5.1 rfl q811 q812 q810 q105 q813 hy_X2_day rfl dX1_birthday_122 rfl rfl (Nat.le_of_ble_eq_true rfl) ⟨Nat.le_of_ble_eq_true rfl, Nat.le_of_ble_eq_true rfl⟩ ⟨Nat.le_of_ble_eq_true rfl, Nat.le_of_ble_eq_true rfl⟩ ?_
      refine r_goto (tgt := 129) X dX1_birthday_125 (by decide) ?_
      cases h
      exact r_iret X hr dX1_birthday_129
  refine r_aload_n X 0 dX1_birthday_0 rfl rfl ?_
  refine r_getA (kf := 4) X ho0.1 rfl (by decide) (by decide) (Or.inl q310) dX1_birthday_1 ?_
  refine r_aload_n X 0 dX1_birthday_4 rfl rfl ?_
  refine r_getI (kf := 15) X ho0.1 rfl (by decide) rfl (Or.inl q322) dX1_birthday_5 ?_
  refine r_aald X ho0.1 (ho0.2 4 (by decide)) rfl rfl (by decide) rfl (by decide) dX1_birthday_8 h (fun b7 h => ?_)
  refine r_astore_n X dX1_birthday_9 rfl (hL 2 (by decide)) (lv' := [(2, .ref (b7)), (0, .ref (a0)), (1, iv (x1))]) rfl ?_
  refine r_iload_n X 2 dX1_birthday_10 rfl rfl ?_
  refine r_istore_n X dX1_birthday_11 rfl (hL 3 (by decide)) (lv' := [(3, iv (x1)), (2, .ref (b7)), (0, .ref (a0)), (1, iv (x1))]) rfl ?_
  refine r_aload_n X 1 dX1_birthday_12 rfl rfl ?_
  refine r_aload_n X 2 dX1_birthday_13 rfl rfl ?_
  refine r_getI (kf := 14) X ho0.1 rfl (by decide) rfl (Or.inl q321) dX1_birthday_14 ?_
  refine r_iconst X dX1_birthday_17 ?_
  obtain ⟨ho9, h⟩ := cO_some h
  obtain ⟨r10, h8, h⟩ := bd_some h
  refine r_cV (Wd := 0) X (fun l D sz => w_X2_date l D sz h8) ho9.1 rfl q755 q756 q754 q105 q757 hy_X2_date rfl dX1_birthday_18 rfl rfl (Nat.le_of_ble_eq_true rfl) ⟨Nat.le_of_ble_eq_true rfl, Nat.le_of_ble_eq_true rfl⟩ ⟨Nat.le_of_ble_eq_true rfl, Nat.le_of_ble_eq_true rfl⟩ ?_
  refine r_istore X dX1_birthday_21 (hL 4 (by decide)) (lv' := [(4, iv (r10)), (3, iv (x1)), (2, .ref (b7)), (0, .ref (a0)), (1, iv (x1))]) rfl ?_
  refine r_aload_n X 2 dX1_birthday_23 rfl rfl ?_
  refine r_aload_n X 3 dX1_birthday_24 rfl rfl ?_
  refine r_getI (kf := 14) X ho0.1 rfl (by decide) rfl (Or.inl q321) dX1_birthday_25 ?_
  refine r_iconst X dX1_birthday_28 ?_
  obtain ⟨r12, h11, h⟩ := bd_some h
  refine r_cV (Wd := 0) X (fun l D sz => w_X2_date l D sz h11) ho9.1 rfl q755 q756 q754 q105 q757 hy_X2_date rfl dX1_birthday_29 rfl rfl (Nat.le_of_ble_eq_true rfl) ⟨Nat.le_of_ble_eq_true rfl, Nat.le_of_ble_eq_true rfl⟩ ⟨Nat.le_of_ble_eq_true rfl, Nat.le_of_ble_eq_true rfl⟩ ?_
  refine r_istore X dX1_birthday_32 (hL 5 (by decide)) (lv' := [(5, iv (r12)), (4, iv (r10)), (3, iv (x1)), (2, .ref (b7)), (0, .ref (a0)), (1, iv (x1))]) rfl ?_
  have L34 : ∀ s : Int × Int × Int, lp (fun s => f_X1_birthday_b34 (σ) (x1) (b7) s.1 s.2.1 s.2.2) s = some w → V Γ (σ) 0 0 34 [(1, iv (x1)), (2, .ref (b7)), (3, iv (s.1)), (4, iv (s.2.1)), (5, iv (s.2.2))] [] := by
    refine lp_rule (P := fun s : Int × Int × Int => V Γ (σ) 0 0 34 [(1, iv (x1)), (2, .ref (b7)), (3, iv (s.1)), (4, iv (s.2.1)), (5, iv (s.2.2))] []) ?_
    intro s z1 h ihb1 ihe1
    obtain ⟨v3_1, v4_1, v5_1⟩ := s
    have h : f_X1_birthday_b34 (σ) (x1) (b7) v3_1 v4_1 v5_1 = some z1 := h
    unfold f_X1_birthday_b34 at h
    show V Γ σ 0 0 34 [(1, iv (x1)), (2, .ref (b7)), (3, iv (v3_1)), (4, iv (v4_1)), (5, iv (v5_1))] []
    have J81 : ∀ (v3_j81 : Int) (v5_j81 : Int) (t0_j81 : Int) (t1_j81 : Int), f_X1_birthday_j81 (σ) (x1) (b7) v3_j81 v5_j81 t0_j81 t1_j81 = some z1 → V Γ σ 0 0 81 [(1, iv (x1)), (2, .ref (b7)), (3, iv (v3_j81)), (5, iv (v5_j81))] [iv (t0_j81), iv (t1_j81)] := by
      intro v3_j81 v5_j81 t0_j81 t1_j81 h
      unfold f_X1_birthday_j81 at h
      refine r_iadd X dX1_birthday_81 ?_
      refine r_istore X dX1_birthday_82 (hL 4 (by decide)) (lv' := [(4, iv ((t1_j81 + t0_j81))), (1, iv (x1)), (2, .ref (b7)), (3, iv (v3_j81)), (5, iv (v5_j81))]) rfl ?_
      refine r_iload X 0 dX1_birthday_84 rfl ?_
      refine r_bipush X dX1_birthday_86 (by decide) ?_
      refine r_icmp_ge (tgt := 94) X dX1_birthday_88 (by decide) h (fun c13 h => ?_) (fun c13 h => ?_)
      · refine r_goto (tgt := 34) X dX1_birthday_91 (by decide) ?_
        exact V.sub [1, 2, 3, 0, 4] rfl (ihb1 _ (Option.some.inj h).symm)
      · refine r_iconst X dX1_birthday_94 ?_
        refine r_istore X dX1_birthday_95 (hL 4 (by decide)) (lv' := [(4, iv (1)), (1, iv (x1)), (2, .ref (b7)), (3, iv (v3_j81)), (5, iv (v5_j81))]) rfl ?_
        refine r_iinc X 3 dX1_birthday_97 rfl (hL 3 (by decide)) (lv' := [(3, iv ((v3_j81 + 1))), (4, iv (1)), (1, iv (x1)), (2, .ref (b7)), (5, iv (v5_j81))]) rfl ?_
        refine r_goto (tgt := 34) X dX1_birthday_100 (by decide) ?_
        exact V.sub [2, 3, 0, 1, 4] rfl (ihb1 _ (Option.some.inj h).symm)
    refine r_iload_n X 2 dX1_birthday_34 rfl rfl ?_
    refine r_sipush X dX1_birthday_35 (by decide) ?_
    refine r_iload_n X 0 dX1_birthday_38 rfl rfl ?_
    refine r_iconst X dX1_birthday_39 ?_
    refine r_iadd X dX1_birthday_40 ?_
    obtain ⟨r15, h14, h⟩ := bd_some h
    refine r_cS (Wd := 1) X (fun l D sz => w_J3_min l D sz h14) q585 q1003 q115 q586 hy_J3_min rfl dX1_birthday_41 rfl rfl (Nat.le_of_ble_eq_true rfl) ⟨Nat.le_of_ble_eq_true rfl, Nat.le_of_ble_eq_true rfl⟩ ⟨Nat.le_of_ble_eq_true rfl, Nat.le_of_ble_eq_true rfl⟩ ?_
    refine r_icmp_gt (tgt := 103) X dX1_birthday_44 (by decide) h (fun c16 h => ?_) (fun c16 h => ?_)
    · have h := ex_some h ihe1
      exact V.sub [0, 1, 2, 3, 4] rfl (J103 (b7) (v3_1) (v4_1) (v5_1) h)
    · refine r_aload_n X 1 dX1_birthday_47 rfl rfl ?_
      refine r_iload_n X 2 dX1_birthday_48 rfl rfl ?_
      refine r_iload X 3 dX1_birthday_49 rfl ?_
      refine r_iload X 4 dX1_birthday_51 rfl ?_
      obtain ⟨r18, h17, h⟩ := bd_some h
      refine r_cV (Wd := 0) X (fun l D sz => w_X2_has l D sz h17) ho9.1 rfl q793 q794 q792 q105 q795 hy_X2_has rfl dX1_birthday_53 rfl rfl (Nat.le_of_ble_eq_true rfl) ⟨Nat.le_of_ble_eq_true rfl, Nat.le_of_ble_eq_true rfl⟩ ⟨Nat.le_of_ble_eq_true rfl, Nat.le_of_ble_eq_true rfl⟩ ?_
      refine r_if_ne (tgt := 103) X dX1_birthday_56 (by decide) h (fun c19 h => ?_) (fun c19 h => ?_)
      · refine r_iload X 4 dX1_birthday_59 rfl ?_
        refine r_bipush X dX1_birthday_61 (by decide) ?_
        obtain ⟨c20, h⟩ := ck_some h
        refine r_irem X dX1_birthday_63 c20 (by decide) (by decide) ?_
        refine r_iconst X dX1_birthday_64 ?_
        refine r_iadd X dX1_birthday_65 ?_
        refine r_istore X dX1_birthday_66 (hL 5 (by decide)) (lv' := [(5, iv (((Int.tmod (v5_1) (31)) + 1))), (1, iv (x1)), (2, .ref (b7)), (3, iv (v3_1)), (4, iv (v4_1))]) rfl ?_
        refine r_iload X 4 dX1_birthday_68 rfl ?_
        refine r_iload X 0 dX1_birthday_70 rfl ?_
        refine r_iconst X dX1_birthday_72 ?_
        refine r_icmp_ne (tgt := 80) X dX1_birthday_73 (by decide) h (fun c21 h => ?_) (fun c21 h => ?_)
        · refine r_iconst X dX1_birthday_76 ?_
          refine r_goto (tgt := 81) X dX1_birthday_77 (by decide) ?_
          exact V.sub [1, 2, 3, 0] rfl (J81 (v3_1) (((Int.tmod (v5_1) (31)) + 1)) (1) (v4_1) h)
        · refine r_iconst X dX1_birthday_80 ?_
          exact V.sub [1, 2, 3, 0] rfl (J81 (v3_1) (((Int.tmod (v5_1) (31)) + 1)) (0) (v4_1) h)
      · have h := ex_some h ihe1
        exact V.sub [0, 1, 2, 3, 4] rfl (J103 (b7) (v3_1) (v4_1) (v5_1) h)
  exact V.sub [5, 3, 2, 1, 0] rfl (L34 (x1, r10, r12) h)
theorem hy_X1_age : yX1_age.cls ≠ "java/lang/invoke/MethodHandle" ∧ yX1_age.cls ≠ "java/lang/invoke/VarHandle" ∧ (parseMethodDescriptor yX1_age.desc).map (fun d => d.parameters.length) = some 4 := by decide +kernel
set_option maxHeartbeats 4000000 in
theorem w_X1_age (l : Launch) (D : DD) (sz : Nat) {σ : St} {a0 : Nat} {x1 : Int} {x2 : Int} {x3 : Int} {x4 : Int} {w : Int} (h : f_X1_age σ a0 x1 x2 x3 x4 = some w) : Mt l yX1_age cX1_age 9 (some FieldType.int) ({ frames := 8, cells := 0, slots := 0, locals := 124 } : Room) D sz σ [.ref a0, iv (x1), iv (x2), iv (x3), iv (x4)] (.returned (some (iv w))) (σ) 0 0 := by
  refine Mt.of (by decide +kernel) (Nat.le_of_ble_eq_true rfl) ?_
  intro Γ X hr hnl hini hnoh
  have X : Cx Γ cX1_age "DayBoy" _ := X
  have hL : ∀ i, i < 9 → i < nLc Γ := fun i q => by rw [hnl]; exact q
  show V Γ σ 0 0 0 [(0, .ref (a0)), (1, iv (x1)), (2, iv (x2)), (3, iv (x3)), (4, iv (x4))] []
  unfold f_X1_age at h
  obtain ⟨ho0, h⟩ := cO_some h
  refine r_aload_n X 0 dX1_age_0 rfl rfl ?_
  refine r_getI (kf := 14) X ho0.1 rfl (by decide) rfl (Or.inl q321) dX1_age_1 ?_
  refine r_iconst X dX1_age_4 ?_
  refine r_icmp_eq (tgt := 28) X dX1_age_5 (by decide) h (fun c1 h => ?_) (fun c1 h => ?_)
  · refine r_iconst X dX1_age_28 ?_
    cases h
    exact r_iret X hr dX1_age_29
  · refine r_iload_n X 1 dX1_age_8 rfl rfl ?_
    refine r_aload_n X 0 dX1_age_9 rfl rfl ?_
    refine r_getI (kf := 15) X ho0.1 rfl (by decide) rfl (Or.inl q322) dX1_age_10 ?_
    refine r_icmp_ne (tgt := 28) X dX1_age_13 (by decide) h (fun c2 h => ?_) (fun c2 h => ?_)
    · refine r_aload_n X 0 dX1_age_16 rfl rfl ?_
      refine r_iload_n X 1 dX1_age_17 rfl rfl ?_
      refine r_iload_n X 2 dX1_age_18 rfl rfl ?_
      refine r_iload_n X 3 dX1_age_19 rfl rfl ?_
      refine r_iload X 4 dX1_age_20 rfl ?_
      obtain ⟨r4, h3, h⟩ := bd_some h
      refine r_cV (Wd := 0) X (fun l D sz => w_X1_isDate l D sz h3) ho0.1 rfl q790 qs24 q788 q104 q791 hy_X1_isDate rfl dX1_age_22 rfl rfl (Nat.le_of_ble_eq_true rfl) ⟨Nat.le_of_ble_eq_true rfl, Nat.le_of_ble_eq_true rfl⟩ ⟨Nat.le_of_ble_eq_true rfl, Nat.le_of_ble_eq_true rfl⟩ ?_
      refine r_if_ne (tgt := 30) X dX1_age_25 (by decide) h (fun c5 h => ?_) (fun c5 h => ?_)
      · refine r_iconst X dX1_age_28 ?_
        cases h
        exact r_iret X hr dX1_age_29
      · refine r_aload_n X 0 dX1_age_30 rfl rfl ?_
        refine r_getA (kf := 4) X ho0.1 rfl (by decide) (by decide) (Or.inl q310) dX1_age_31 ?_
        refine r_iload_n X 1 dX1_age_34 rfl rfl ?_
        refine r_aald X ho0.1 (ho0.2 4 (by decide)) rfl rfl (by decide) rfl (by decide) dX1_age_35 h (fun b6 h => ?_)
        refine r_iload_n X 2 dX1_age_36 rfl rfl ?_
        refine r_iload_n X 3 dX1_age_37 rfl rfl ?_
        refine r_iload X 4 dX1_age_38 rfl ?_
        obtain ⟨ho8, h⟩ := cO_some h
        obtain ⟨r9, h7, h⟩ := bd_some h
        refine r_cV (Wd := 0) X (fun l D sz => w_X2_day l D sz h7) ho8.1 rfl q811 q812 q810 q105 q813 hy_X2_day rfl dX1_age_40 rfl rfl (Nat.le_of_ble_eq_true rfl) ⟨Nat.le_of_ble_eq_true rfl, Nat.le_of_ble_eq_true rfl⟩ ⟨Nat.le_of_ble_eq_true rfl, Nat.le_of_ble_eq_true rfl⟩ ?_
        refine r_istore X dX1_age_43 (hL 5 (by decide)) (lv' := [(5, iv (r9)), (0, .ref (a0)), (1, iv (x1)), (2, iv (x2)), (3, iv (x3)), (4, iv (x4))]) rfl ?_
        refine r_iload X 0 dX1_age_45 rfl ?_
        refine r_aload_n X 1 dX1_age_47 rfl rfl ?_
        refine r_getI (kf := 14) X ho0.1 rfl (by decide) rfl (Or.inl q321) dX1_age_48 ?_
        refine r_icmp_ge (tgt := 56) X dX1_age_51 (by decide) h (fun c10 h => ?_) (fun c10 h => ?_)
        · refine r_iconst X dX1_age_54 ?_
          cases h
          exact r_iret X hr dX1_age_55
        · refine r_iconst X dX1_age_56 ?_
          refine r_istore X dX1_age_57 (hL 6 (by decide)) (lv' := [(6, iv (0)), (5, iv (r9)), (0, .ref (a0)), (1, iv (x1)), (2, iv (x2)), (3, iv (x3)), (4, iv (x4))]) rfl ?_
          refine r_aload_n X 2 dX1_age_59 rfl rfl ?_
          refine r_getA (kf := 4) X ho0.1 rfl (by decide) (by decide) (Or.inl q310) dX1_age_60 ?_
          refine r_iload_n X 3 dX1_age_63 rfl rfl ?_
          refine r_aald X ho0.1 (ho0.2 4 (by decide)) rfl rfl (by decide) rfl (by decide) dX1_age_64 h (fun b11 h => ?_)
          refine r_aload_n X 2 dX1_age_65 rfl rfl ?_
          refine r_getI (kf := 14) X ho0.1 rfl (by decide) rfl (Or.inl q321) dX1_age_66 ?_
          refine r_iconst X dX1_age_69 ?_
          obtain ⟨ho13, h⟩ := cO_some h
          obtain ⟨r14, h12, h⟩ := bd_some h
          refine r_cV (Wd := 0) X (fun l D sz => w_X2_date l D sz h12) ho13.1 rfl q755 q756 q754 q105 q757 hy_X2_date rfl dX1_age_70 rfl rfl (Nat.le_of_ble_eq_true rfl) ⟨Nat.le_of_ble_eq_true rfl, Nat.le_of_ble_eq_true rfl⟩ ⟨Nat.le_of_ble_eq_true rfl, Nat.le_of_ble_eq_true rfl⟩ ?_
          refine r_iconst X dX1_age_73 ?_
          refine r_iadd X dX1_age_74 ?_
          refine r_istore X dX1_age_75 (hL 7 (by decide)) (lv' := [(7, iv ((r14 + 1))), (6, iv (0)), (5, iv (r9)), (0, .ref (a0)), (1, iv (x1)), (2, iv (x2)), (3, iv (x3)), (4, iv (x4))]) rfl ?_
          have L77 : ∀ s : Int × Int, lp (fun s => f_X1_age_b77 (σ) (a0) (x2) (r9) s.1 s.2) s = some w → V Γ (σ) 0 0 77 [(0, .ref (a0)), (2, iv (x2)), (5, iv (r9)), (6, iv (s.1)), (7, iv (s.2))] [] := by
            refine lp_rule (P := fun s : Int × Int => V Γ (σ) 0 0 77 [(0, .ref (a0)), (2, iv (x2)), (5, iv (r9)), (6, iv (s.1)), (7, iv (s.2))] []) ?_
            intro s z1 h ihb1 ihe1
            obtain ⟨v6_1, v7_1⟩ := s
            have h : f_X1_age_b77 (σ) (a0) (x2) (r9) v6_1 v7_1 = some z1 := h
            unfold f_X1_age_b77 at h
            show V Γ σ 0 0 77 [(0, .ref (a0)), (2, iv (x2)), (5, iv (r9)), (6, iv (v6_1)), (7, iv (v7_1))] []
            refine r_iload X 4 dX1_age_77 rfl ?_
            refine r_iload_n X 1 dX1_age_79 rfl rfl ?_
            refine r_icmp_gt (tgt := 120) X dX1_age_80 (by decide) h (fun c15 h => ?_) (fun c15 h => ?_)
            · have h := ex_some h ihe1
              refine r_iload X 3 dX1_age_120 rfl ?_
              cases h
              exact r_iret X hr dX1_age_122
            · refine r_aload_n X 0 dX1_age_83 rfl rfl ?_
              refine r_iload X 4 dX1_age_84 rfl ?_
              obtain ⟨r17, h16, h⟩ := bd_some h
              refine r_cV (Wd := 0) X (fun l D sz => w_X1_birthday l D sz h16) ho0.1 rfl q1001 qs32 q999 q104 q1002 hy_X1_birthday rfl dX1_age_86 rfl rfl (Nat.le_of_ble_eq_true rfl) ⟨Nat.le_of_ble_eq_true rfl, Nat.le_of_ble_eq_true rfl⟩ ⟨Nat.le_of_ble_eq_true rfl, Nat.le_of_ble_eq_true rfl⟩ ?_
              refine r_istore X dX1_age_89 (hL 8 (by decide)) (lv' := [(8, iv (r17)), (0, .ref (a0)), (2, iv (x2)), (5, iv (r9)), (6, iv (v6_1)), (7, iv (v7_1))]) rfl ?_
              refine r_iload X 4 dX1_age_91 rfl ?_
              refine r_iload X 0 dX1_age_93 rfl ?_
              refine r_iconst X dX1_age_95 ?_
              refine r_icmp_eq (tgt := 110) X dX1_age_96 (by decide) h (fun c18 h => ?_) (fun c18 h => ?_)
              · refine r_iconst X dX1_age_110 ?_
                refine r_iadd X dX1_age_111 ?_
                refine r_istore X dX1_age_112 (hL 6 (by decide)) (lv' := [(6, iv ((v6_1 + 0))), (8, iv (r17)), (0, .ref (a0)), (2, iv (x2)), (5, iv (r9)), (7, iv (v7_1))]) rfl ?_
                refine r_iinc X 5 dX1_age_114 rfl (hL 7 (by decide)) (lv' := [(7, iv ((v7_1 + 1))), (6, iv ((v6_1 + 0))), (8, iv (r17)), (0, .ref (a0)), (2, iv (x2)), (5, iv (r9))]) rfl ?_
                refine r_goto (tgt := 77) X dX1_age_117 (by decide) ?_
                exact V.sub [3, 4, 5, 1, 0] rfl (ihb1 _ (Option.some.inj h).symm)
              · refine r_iload X 0 dX1_age_99 rfl ?_
                refine r_iload X 3 dX1_age_101 rfl ?_
                refine r_icmp_gt (tgt := 110) X dX1_age_103 (by decide) h (fun c19 h => ?_) (fun c19 h => ?_)
                · refine r_iconst X dX1_age_110 ?_
                  refine r_iadd X dX1_age_111 ?_
                  refine r_istore X dX1_age_112 (hL 6 (by decide)) (lv' := [(6, iv ((v6_1 + 0))), (8, iv (r17)), (0, .ref (a0)), (2, iv (x2)), (5, iv (r9)), (7, iv (v7_1))]) rfl ?_
                  refine r_iinc X 5 dX1_age_114 rfl (hL 7 (by decide)) (lv' := [(7, iv ((v7_1 + 1))), (6, iv ((v6_1 + 0))), (8, iv (r17)), (0, .ref (a0)), (2, iv (x2)), (5, iv (r9))]) rfl ?_
                  refine r_goto (tgt := 77) X dX1_age_117 (by decide) ?_
                  exact V.sub [3, 4, 5, 1, 0] rfl (ihb1 _ (Option.some.inj h).symm)
                · refine r_iconst X dX1_age_106 ?_
                  refine r_goto (tgt := 111) X dX1_age_107 (by decide) ?_
                  refine r_iadd X dX1_age_111 ?_
                  refine r_istore X dX1_age_112 (hL 6 (by decide)) (lv' := [(6, iv ((v6_1 + 1))), (8, iv (r17)), (0, .ref (a0)), (2, iv (x2)), (5, iv (r9)), (7, iv (v7_1))]) rfl ?_
                  refine r_iinc X 5 dX1_age_114 rfl (hL 7 (by decide)) (lv' := [(7, iv ((v7_1 + 1))), (6, iv ((v6_1 + 1))), (8, iv (r17)), (0, .ref (a0)), (2, iv (x2)), (5, iv (r9))]) rfl ?_
                  refine r_goto (tgt := 77) X dX1_age_117 (by decide) ?_
                  exact V.sub [3, 4, 5, 1, 0] rfl (ihb1 _ (Option.some.inj h).symm)
          exact V.sub [3, 5, 2, 1, 0] rfl (L77 (0, (r14 + 1)) h)
    · refine r_iconst X dX1_age_28 ?_
      cases h
      exact r_iret X hr dX1_age_29
theorem hy_X1_mean : yX1_mean.cls ≠ "java/lang/invoke/MethodHandle" ∧ yX1_mean.cls ≠ "java/lang/invoke/VarHandle" ∧ (parseMethodDescriptor yX1_mean.desc).map (fun d => d.parameters.length) = some 2 := by decide +kernel
set_option maxHeartbeats 4000000 in
theorem w_X1_mean (l : Launch) (D : DD) (sz : Nat) {σ : St} {x0 : Int} {x1 : Int} {w : Int} (h : f_X1_mean σ x0 x1 = some w) : Mt l yX1_mean cX1_mean 2 (some FieldType.int) ({ frames := 0, cells := 0, slots := 0, locals := 0 } : Room) D sz σ [iv (x0), iv (x1)] (.returned (some (iv w))) (σ) 0 0 := by
  refine Mt.of (by decide +kernel) (Nat.le_of_ble_eq_true rfl) ?_
  intro Γ X hr hnl hini hnoh
  have X : Cx Γ cX1_mean "DayBoy" _ := X
  have hL : ∀ i, i < 2 → i < nLc Γ := fun i q => by rw [hnl]; exact q
  show V Γ σ 0 0 0 [(0, iv (x0)), (1, iv (x1))] []
  unfold f_X1_mean at h
  refine r_iload_n X 1 dX1_mean_0 rfl rfl ?_
  refine r_if_ne (tgt := 8) X dX1_mean_1 (by decide) h (fun c1 h => ?_) (fun c1 h => ?_)
  · refine r_iconst X dX1_mean_4 ?_
    refine r_goto (tgt := 11) X dX1_mean_5 (by decide) ?_
    cases h
    exact r_iret X hr dX1_mean_11
  · refine r_iload_n X 0 dX1_mean_8 rfl rfl ?_
    refine r_iload_n X 1 dX1_mean_9 rfl rfl ?_
    obtain ⟨⟨c2, c3, c4⟩, h⟩ := ck_some h
    refine r_idiv X dX1_mean_10 c2 c3 c4 ?_
    cases h
    exact r_iret X hr dX1_mean_11
theorem hy_X1_lived : yX1_lived.cls ≠ "java/lang/invoke/MethodHandle" ∧ yX1_lived.cls ≠ "java/lang/invoke/VarHandle" ∧ (parseMethodDescriptor yX1_lived.desc).map (fun d => d.parameters.length) = some 1 := by decide +kernel
set_option maxHeartbeats 4000000 in
theorem w_X1_lived (l : Launch) (D : DD) (sz : Nat) {σ : St} {a0 : Nat} {x1 : Int} {w : Int} (h : f_X1_lived σ a0 x1 = some w) : Mt l yX1_lived cX1_lived 5 (some FieldType.int) ({ frames := 1, cells := 0, slots := 0, locals := 17 } : Room) D sz σ [.ref a0, iv (x1)] (.returned (some (iv w))) (σ) 0 0 := by
  refine Mt.of (by decide +kernel) (Nat.le_of_ble_eq_true rfl) ?_
  intro Γ X hr hnl hini hnoh
  have X : Cx Γ cX1_lived "DayBoy" _ := X
  have hL : ∀ i, i < 5 → i < nLc Γ := fun i q => by rw [hnl]; exact q
  show V Γ σ 0 0 0 [(0, .ref (a0)), (1, iv (x1))] []
  unfold f_X1_lived at h
  obtain ⟨ho0, h⟩ := cO_some h
  refine r_aload_n X 0 dX1_lived_0 rfl rfl ?_
  refine r_getI (kf := 14) X ho0.1 rfl (by decide) rfl (Or.inl q321) dX1_lived_1 ?_
  refine r_iconst X dX1_lived_4 ?_
  refine r_icmp_eq (tgt := 18) X dX1_lived_5 (by decide) h (fun c1 h => ?_) (fun c1 h => ?_)
  · refine r_iconst X dX1_lived_18 ?_
    cases h
    exact r_iret X hr dX1_lived_19
  · refine r_iload_n X 1 dX1_lived_8 rfl rfl ?_
    obtain ⟨c2, h⟩ := ck_some h
    refine r_i2l X dX1_lived_9 c2 ?_
    refine r_lconst (y := 0) X dX1_lived_10 rfl ?_
    refine r_lconst (y := 1) X dX1_lived_11 rfl ?_
    obtain ⟨r4, h3, h⟩ := bd_some h
    refine r_cS (Wd := 0) X (fun l D sz => w_X1_isIn l D sz h3) q414 q413 q104 q415 hy_X1_isIn rfl dX1_lived_12 rfl rfl (Nat.le_of_ble_eq_true rfl) ⟨Nat.le_of_ble_eq_true rfl, Nat.le_of_ble_eq_true rfl⟩ ⟨Nat.le_of_ble_eq_true rfl, Nat.le_of_ble_eq_true rfl⟩ ?_
    refine r_if_ne (tgt := 20) X dX1_lived_15 (by decide) h (fun c5 h => ?_) (fun c5 h => ?_)
    · refine r_iconst X dX1_lived_18 ?_
      cases h
      exact r_iret X hr dX1_lived_19
    · refine r_iconst X dX1_lived_20 ?_
      refine r_istore_n X dX1_lived_21 rfl (hL 2 (by decide)) (lv' := [(2, iv (0)), (0, .ref (a0)), (1, iv (x1))]) rfl ?_
      refine r_iconst X dX1_lived_22 ?_
      refine r_istore_n X dX1_lived_23 rfl (hL 3 (by decide)) (lv' := [(3, iv (0)), (2, iv (0)), (0, .ref (a0)), (1, iv (x1))]) rfl ?_
      refine r_iconst X dX1_lived_24 ?_
      refine r_istore X dX1_lived_25 (hL 4 (by decide)) (lv' := [(4, iv (0)), (3, iv (0)), (2, iv (0)), (0, .ref (a0)), (1, iv (x1))]) rfl ?_
      have L27 : ∀ s : Int × Int × Int, lp (fun s => f_X1_lived_b27 (σ) (a0) (x1) s.1 s.2.1 s.2.2) s = some w → V Γ (σ) 0 0 27 [(0, .ref (a0)), (1, iv (x1)), (2, iv (s.1)), (3, iv (s.2.1)), (4, iv (s.2.2))] [] := by
        refine lp_rule (P := fun s : Int × Int × Int => V Γ (σ) 0 0 27 [(0, .ref (a0)), (1, iv (x1)), (2, iv (s.1)), (3, iv (s.2.1)), (4, iv (s.2.2))] []) ?_
        intro s z1 h ihb1 ihe1
        obtain ⟨v2_1, v3_1, v4_1⟩ := s
        have h : f_X1_lived_b27 (σ) (a0) (x1) v2_1 v3_1 v4_1 = some z1 := h
        unfold f_X1_lived_b27 at h
        show V Γ σ 0 0 27 [(0, .ref (a0)), (1, iv (x1)), (2, iv (v2_1)), (3, iv (v3_1)), (4, iv (v4_1))] []
        have J67 : ∀ (v2_j67 : Int) (v3_j67 : Int) (v4_j67 : Int) (t0_j67 : Int) (t1_j67 : Int), f_X1_lived_j67 (σ) (a0) (x1) v2_j67 v3_j67 v4_j67 t0_j67 t1_j67 = some z1 → V Γ σ 0 0 67 [(0, .ref (a0)), (1, iv (x1)), (2, iv (v2_j67)), (3, iv (v3_j67)), (4, iv (v4_j67))] [iv (t0_j67), iv (t1_j67)] := by
          intro v2_j67 v3_j67 v4_j67 t0_j67 t1_j67 h
          unfold f_X1_lived_j67 at h
          refine r_icmp_eq (tgt := 73) X dX1_lived_67 (by decide) h (fun c6 h => ?_) (fun c6 h => ?_)
          · refine r_iload_n X 2 dX1_lived_73 rfl rfl ?_
            refine r_aload_n X 0 dX1_lived_74 rfl rfl ?_
            refine r_getA (kf := 12) X ho0.1 rfl (by decide) (by decide) (Or.inl q319) dX1_lived_75 ?_
            refine r_iload X 4 dX1_lived_78 rfl ?_
            refine r_aald X ho0.1 (ho0.2 12 (by decide)) rfl rfl (by decide) rfl (by decide) dX1_lived_80 h (fun b7 h => ?_)
            obtain ⟨ho8, h⟩ := cO_some h
            refine r_getI (kf := 7) X ho8.1 rfl (by decide) rfl (Or.inr ⟨_, q939⟩) dX1_lived_81 ?_
            refine r_iadd X dX1_lived_84 ?_
            refine r_istore_n X dX1_lived_85 rfl (hL 2 (by decide)) (lv' := [(2, iv ((v2_j67 + (gI (σ) (b7) 7 0)))), (0, .ref (a0)), (1, iv (x1)), (3, iv (v3_j67)), (4, iv (v4_j67))]) rfl ?_
            refine r_iinc X 3 dX1_lived_86 rfl (hL 3 (by decide)) (lv' := [(3, iv ((v3_j67 + 1))), (2, iv ((v2_j67 + (gI (σ) (b7) 7 0)))), (0, .ref (a0)), (1, iv (x1)), (4, iv (v4_j67))]) rfl ?_
            refine r_iinc X 4 dX1_lived_89 rfl (hL 4 (by decide)) (lv' := [(4, iv ((v4_j67 + 1))), (3, iv ((v3_j67 + 1))), (2, iv ((v2_j67 + (gI (σ) (b7) 7 0)))), (0, .ref (a0)), (1, iv (x1))]) rfl ?_
            refine r_goto (tgt := 27) X dX1_lived_92 (by decide) ?_
            exact V.sub [3, 4, 2, 1, 0] rfl (ihb1 _ (Option.some.inj h).symm)
          · refine r_goto (tgt := 89) X dX1_lived_70 (by decide) ?_
            refine r_iinc X 4 dX1_lived_89 rfl (hL 4 (by decide)) (lv' := [(4, iv ((v4_j67 + 1))), (0, .ref (a0)), (1, iv (x1)), (2, iv (v2_j67)), (3, iv (v3_j67))]) rfl ?_
            refine r_goto (tgt := 27) X dX1_lived_92 (by decide) ?_
            exact V.sub [1, 2, 3, 4, 0] rfl (ihb1 _ (Option.some.inj h).symm)
        have J58 : ∀ (v2_j58 : Int) (v3_j58 : Int) (v4_j58 : Int) (t0_j58 : Int), f_X1_lived_j58 (σ) (a0) (x1) v2_j58 v3_j58 v4_j58 t0_j58 = some z1 → V Γ σ 0 0 58 [(0, .ref (a0)), (1, iv (x1)), (2, iv (v2_j58)), (3, iv (v3_j58)), (4, iv (v4_j58))] [iv (t0_j58)] := by
          intro v2_j58 v3_j58 v4_j58 t0_j58 h
          unfold f_X1_lived_j58 at h
          refine r_iload_n X 1 dX1_lived_58 rfl rfl ?_
          refine r_if_ne (tgt := 66) X dX1_lived_59 (by decide) h (fun c9 h => ?_) (fun c9 h => ?_)
          · refine r_iconst X dX1_lived_62 ?_
            refine r_goto (tgt := 67) X dX1_lived_63 (by decide) ?_
            exact V.sub [0, 1, 2, 3, 4] rfl (J67 (v2_j58) (v3_j58) (v4_j58) (1) (t0_j58) h)
          · refine r_iconst X dX1_lived_66 ?_
            exact V.sub [0, 1, 2, 3, 4] rfl (J67 (v2_j58) (v3_j58) (v4_j58) (0) (t0_j58) h)
        refine r_iload X 4 dX1_lived_27 rfl ?_
        refine r_aload_n X 0 dX1_lived_29 rfl rfl ?_
        refine r_getI (kf := 13) X ho0.1 rfl (by decide) rfl (Or.inl q320) dX1_lived_30 ?_
        refine r_icmp_ge (tgt := 95) X dX1_lived_33 (by decide) h (fun c10 h => ?_) (fun c10 h => ?_)
        · refine r_aload_n X 0 dX1_lived_36 rfl rfl ?_
          refine r_getA (kf := 12) X ho0.1 rfl (by decide) (by decide) (Or.inl q319) dX1_lived_37 ?_
          refine r_iload X 4 dX1_lived_40 rfl ?_
          refine r_aald X ho0.1 (ho0.2 12 (by decide)) rfl rfl (by decide) rfl (by decide) dX1_lived_42 h (fun b11 h => ?_)
          obtain ⟨ho12, h⟩ := cO_some h
          refine r_getI (kf := 5) X ho12.1 rfl (by decide) rfl (Or.inr ⟨_, q935⟩) dX1_lived_43 ?_
          refine r_aload_n X 0 dX1_lived_46 rfl rfl ?_
          refine r_getI (kf := 14) X ho0.1 rfl (by decide) rfl (Or.inl q321) dX1_lived_47 ?_
          refine r_icmp_lt (tgt := 57) X dX1_lived_50 (by decide) h (fun c13 h => ?_) (fun c13 h => ?_)
          · refine r_iconst X dX1_lived_57 ?_
            exact V.sub [0, 1, 2, 3, 4] rfl (J58 (v2_1) (v3_1) (v4_1) (0) h)
          · refine r_iconst X dX1_lived_53 ?_
            refine r_goto (tgt := 58) X dX1_lived_54 (by decide) ?_
            exact V.sub [0, 1, 2, 3, 4] rfl (J58 (v2_1) (v3_1) (v4_1) (1) h)
        · have h := ex_some h ihe1
          refine r_iload_n X 2 dX1_lived_95 rfl rfl ?_
          refine r_iload_n X 3 dX1_lived_96 rfl rfl ?_
          obtain ⟨r15, h14, h⟩ := bd_some h
          refine r_cS (Wd := 0) X (fun l D sz => w_X1_mean l D sz h14) q1009 q1008 q104 q1010 hy_X1_mean rfl dX1_lived_97 rfl rfl (Nat.le_of_ble_eq_true rfl) ⟨Nat.le_of_ble_eq_true rfl, Nat.le_of_ble_eq_true rfl⟩ ⟨Nat.le_of_ble_eq_true rfl, Nat.le_of_ble_eq_true rfl⟩ ?_
          cases h
          exact r_iret X hr dX1_lived_100
      exact V.sub [3, 4, 2, 1, 0] rfl (L27 (0, 0, 0) h)
theorem hy_X1_kindOf : yX1_kindOf.cls ≠ "java/lang/invoke/MethodHandle" ∧ yX1_kindOf.cls ≠ "java/lang/invoke/VarHandle" ∧ (parseMethodDescriptor yX1_kindOf.desc).map (fun d => d.parameters.length) = some 1 := by decide +kernel
set_option maxHeartbeats 4000000 in
theorem w_X1_kindOf (l : Launch) (D : DD) (sz : Nat) {σ : St} {a0 : Nat} {p1 : Nat} {w : Int} (h : f_X1_kindOf σ a0 p1 = some w) : Mt l yX1_kindOf cX1_kindOf 2 (some FieldType.int) ({ frames := 9, cells := 0, slots := 0, locals := 137 } : Room) D sz σ [.ref a0, .ref (p1)] (.returned (some (iv w))) (σ) 0 0 := by
  refine Mt.of (by decide +kernel) (Nat.le_of_ble_eq_true rfl) ?_
  intro Γ X hr hnl hini hnoh
  have X : Cx Γ cX1_kindOf "DayBoy" _ := X
  have hL : ∀ i, i < 2 → i < nLc Γ := fun i q => by rw [hnl]; exact q
  show V Γ σ 0 0 0 [(0, .ref (a0)), (1, .ref (p1))] []
  unfold f_X1_kindOf at h
  obtain ⟨ho0, h⟩ := cO_some h
  refine r_aload_n X 0 dX1_kindOf_0 rfl rfl ?_
  refine r_getA (kf := 4) X ho0.1 rfl (by decide) (by decide) (Or.inl q310) dX1_kindOf_1 ?_
  refine r_aload_n X 1 dX1_kindOf_4 rfl rfl ?_
  obtain ⟨ho1, h⟩ := cO_some h
  refine r_getI (kf := 1) X ho1.1 rfl (by decide) rfl (Or.inr ⟨_, q927⟩) dX1_kindOf_5 ?_
  refine r_aald X ho0.1 (ho0.2 4 (by decide)) rfl rfl (by decide) rfl (by decide) dX1_kindOf_8 h (fun b2 h => ?_)
  refine r_aload_n X 1 dX1_kindOf_9 rfl rfl ?_
  refine r_getI (kf := 2) X ho1.1 rfl (by decide) rfl (Or.inr ⟨_, q929⟩) dX1_kindOf_10 ?_
  obtain ⟨ho4, h⟩ := cO_some h
  obtain ⟨r5, h3, h⟩ := bd_some h
  refine r_cV (Wd := 0) X (fun l D sz => w_X2_kind l D sz h3) ho4.1 rfl q834 q835 q833 q105 q836 hy_X2_kind rfl dX1_kindOf_13 rfl rfl (Nat.le_of_ble_eq_true rfl) ⟨Nat.le_of_ble_eq_true rfl, Nat.le_of_ble_eq_true rfl⟩ ⟨Nat.le_of_ble_eq_true rfl, Nat.le_of_ble_eq_true rfl⟩ ?_
  cases h
  exact r_iret X hr dX1_kindOf_16
theorem hy_X1_after : yX1_after.cls ≠ "java/lang/invoke/MethodHandle" ∧ yX1_after.cls ≠ "java/lang/invoke/VarHandle" ∧ (parseMethodDescriptor yX1_after.desc).map (fun d => d.parameters.length) = some 1 := by decide +kernel
set_option maxHeartbeats 4000000 in
theorem w_X1_after (l : Launch) (D : DD) (sz : Nat) {σ : St} {a0 : Nat} {x1 : Int} {w : Int} (h : f_X1_after σ a0 x1 = some w) : Mt l yX1_after cX1_after 6 (some FieldType.int) ({ frames := 10, cells := 0, slots := 0, locals := 151 } : Room) D sz σ [.ref a0, iv (x1)] (.returned (some (iv w))) (σ) 0 0 := by
  refine Mt.of (by decide +kernel) (Nat.le_of_ble_eq_true rfl) ?_
  intro Γ X hr hnl hini hnoh
  have X : Cx Γ cX1_after "DayBoy" _ := X
  have hL : ∀ i, i < 6 → i < nLc Γ := fun i q => by rw [hnl]; exact q
  show V Γ σ 0 0 0 [(0, .ref (a0)), (1, iv (x1))] []
  unfold f_X1_after at h
  obtain ⟨ho0, h⟩ := cO_some h
  refine r_iload_n X 1 dX1_after_0 rfl rfl ?_
  obtain ⟨c1, h⟩ := ck_some h
  refine r_i2l X dX1_after_1 c1 ?_
  refine r_lconst (y := 0) X dX1_after_2 rfl ?_
  refine r_lconst (y := 1) X dX1_after_3 rfl ?_
  obtain ⟨r3, h2, h⟩ := bd_some h
  refine r_cS (Wd := 0) X (fun l D sz => w_X1_isIn l D sz h2) q414 q413 q104 q415 hy_X1_isIn rfl dX1_after_4 rfl rfl (Nat.le_of_ble_eq_true rfl) ⟨Nat.le_of_ble_eq_true rfl, Nat.le_of_ble_eq_true rfl⟩ ⟨Nat.le_of_ble_eq_true rfl, Nat.le_of_ble_eq_true rfl⟩ ?_
  refine r_if_ne (tgt := 12) X dX1_after_7 (by decide) h (fun c4 h => ?_) (fun c4 h => ?_)
  · refine r_iconst X dX1_after_10 ?_
    cases h
    exact r_iret X hr dX1_after_11
  · refine r_iconst X dX1_after_12 ?_
    refine r_istore_n X dX1_after_13 rfl (hL 2 (by decide)) (lv' := [(2, iv (0)), (0, .ref (a0)), (1, iv (x1))]) rfl ?_
    refine r_iconst X dX1_after_14 ?_
    refine r_istore_n X dX1_after_15 rfl (hL 3 (by decide)) (lv' := [(3, iv (0)), (2, iv (0)), (0, .ref (a0)), (1, iv (x1))]) rfl ?_
    refine r_iconst X dX1_after_16 ?_
    refine r_istore X dX1_after_17 (hL 4 (by decide)) (lv' := [(4, iv (1)), (3, iv (0)), (2, iv (0)), (0, .ref (a0)), (1, iv (x1))]) rfl ?_
    have L19 : ∀ s : Int × Int × Int, lp (fun s => f_X1_after_b19 (σ) (a0) (x1) s.1 s.2.1 s.2.2) s = some w → V Γ (σ) 0 0 19 [(0, .ref (a0)), (1, iv (x1)), (2, iv (s.1)), (3, iv (s.2.1)), (4, iv (s.2.2))] [] := by
      refine lp_rule (P := fun s : Int × Int × Int => V Γ (σ) 0 0 19 [(0, .ref (a0)), (1, iv (x1)), (2, iv (s.1)), (3, iv (s.2.1)), (4, iv (s.2.2))] []) ?_
      intro s z1 h ihb1 ihe1
      obtain ⟨v2_1, v3_1, v4_1⟩ := s
      have h : f_X1_after_b19 (σ) (a0) (x1) v2_1 v3_1 v4_1 = some z1 := h
      unfold f_X1_after_b19 at h
      show V Γ σ 0 0 19 [(0, .ref (a0)), (1, iv (x1)), (2, iv (v2_1)), (3, iv (v3_1)), (4, iv (v4_1))] []
      have J88 : ∀ (v2_j88 : Int) (v3_j88 : Int) (v4_j88 : Int) (t0_j88 : Int) (t1_j88 : Int), f_X1_after_j88 (σ) (a0) (x1) v2_j88 v3_j88 v4_j88 t0_j88 t1_j88 = some z1 → V Γ σ 0 0 88 [(0, .ref (a0)), (1, iv (x1)), (2, iv (v2_j88)), (3, iv (v3_j88)), (4, iv (v4_j88))] [iv (t0_j88), iv (t1_j88)] := by
        intro v2_j88 v3_j88 v4_j88 t0_j88 t1_j88 h
        unfold f_X1_after_j88 at h
        refine r_icmp_eq (tgt := 94) X dX1_after_88 (by decide) h (fun c5 h => ?_) (fun c5 h => ?_)
        · refine r_iload_n X 2 dX1_after_94 rfl rfl ?_
          refine r_aload_n X 0 dX1_after_95 rfl rfl ?_
          refine r_getA (kf := 12) X ho0.1 rfl (by decide) (by decide) (Or.inl q319) dX1_after_96 ?_
          refine r_iload X 4 dX1_after_99 rfl ?_
          refine r_aald X ho0.1 (ho0.2 12 (by decide)) rfl rfl (by decide) rfl (by decide) dX1_after_101 h (fun b6 h => ?_)
          obtain ⟨ho7, h⟩ := cO_some h
          refine r_getI (kf := 7) X ho7.1 rfl (by decide) rfl (Or.inr ⟨_, q939⟩) dX1_after_102 ?_
          refine r_iadd X dX1_after_105 ?_
          refine r_istore_n X dX1_after_106 rfl (hL 2 (by decide)) (lv' := [(2, iv ((v2_j88 + (gI (σ) (b6) 7 0)))), (0, .ref (a0)), (1, iv (x1)), (3, iv (v3_j88)), (4, iv (v4_j88))]) rfl ?_
          refine r_iinc X 3 dX1_after_107 rfl (hL 3 (by decide)) (lv' := [(3, iv ((v3_j88 + 1))), (2, iv ((v2_j88 + (gI (σ) (b6) 7 0)))), (0, .ref (a0)), (1, iv (x1)), (4, iv (v4_j88))]) rfl ?_
          refine r_iinc X 4 dX1_after_110 rfl (hL 4 (by decide)) (lv' := [(4, iv ((v4_j88 + 1))), (3, iv ((v3_j88 + 1))), (2, iv ((v2_j88 + (gI (σ) (b6) 7 0)))), (0, .ref (a0)), (1, iv (x1))]) rfl ?_
          refine r_goto (tgt := 19) X dX1_after_113 (by decide) ?_
          exact V.sub [3, 4, 2, 1, 0] rfl (ihb1 _ (Option.some.inj h).symm)
        · refine r_goto (tgt := 110) X dX1_after_91 (by decide) ?_
          refine r_iinc X 4 dX1_after_110 rfl (hL 4 (by decide)) (lv' := [(4, iv ((v4_j88 + 1))), (0, .ref (a0)), (1, iv (x1)), (2, iv (v2_j88)), (3, iv (v3_j88))]) rfl ?_
          refine r_goto (tgt := 19) X dX1_after_113 (by decide) ?_
          exact V.sub [1, 2, 3, 4, 0] rfl (ihb1 _ (Option.some.inj h).symm)
      have J75 : ∀ (v2_j75 : Int) (v3_j75 : Int) (v4_j75 : Int) (t0_j75 : Int), f_X1_after_j75 (σ) (a0) (x1) v2_j75 v3_j75 v4_j75 t0_j75 = some z1 → V Γ σ 0 0 75 [(0, .ref (a0)), (1, iv (x1)), (2, iv (v2_j75)), (3, iv (v3_j75)), (4, iv (v4_j75))] [iv (t0_j75)] := by
        intro v2_j75 v3_j75 v4_j75 t0_j75 h
        unfold f_X1_after_j75 at h
        refine r_istore X dX1_after_75 (hL 5 (by decide)) (lv' := [(5, iv (t0_j75)), (0, .ref (a0)), (1, iv (x1)), (2, iv (v2_j75)), (3, iv (v3_j75)), (4, iv (v4_j75))]) rfl ?_
        refine r_iload X 0 dX1_after_77 rfl ?_
        refine r_iload_n X 2 dX1_after_79 rfl rfl ?_
        refine r_if_ne (tgt := 87) X dX1_after_80 (by decide) h (fun c8 h => ?_) (fun c8 h => ?_)
        · refine r_iconst X dX1_after_83 ?_
          refine r_goto (tgt := 88) X dX1_after_84 (by decide) ?_
          exact V.sub [1, 2, 3, 4, 5] rfl (J88 (v2_j75) (v3_j75) (v4_j75) (1) (t0_j75) h)
        · refine r_iconst X dX1_after_87 ?_
          exact V.sub [1, 2, 3, 4, 5] rfl (J88 (v2_j75) (v3_j75) (v4_j75) (0) (t0_j75) h)
      have J74 : ∀ (v2_j74 : Int) (v3_j74 : Int) (v4_j74 : Int), f_X1_after_j74 (σ) (a0) (x1) v2_j74 v3_j74 v4_j74 = some z1 → V Γ σ 0 0 74 [(0, .ref (a0)), (1, iv (x1)), (2, iv (v2_j74)), (3, iv (v3_j74)), (4, iv (v4_j74))] [] := by
        intro v2_j74 v3_j74 v4_j74 h
        unfold f_X1_after_j74 at h
        refine r_iconst X dX1_after_74 ?_
        exact V.sub [0, 1, 2, 3, 4] rfl (J75 (v2_j74) (v3_j74) (v4_j74) (0) h)
      refine r_iload X 4 dX1_after_19 rfl ?_
      refine r_aload_n X 0 dX1_after_21 rfl rfl ?_
      refine r_getI (kf := 13) X ho0.1 rfl (by decide) rfl (Or.inl q320) dX1_after_22 ?_
      refine r_icmp_ge (tgt := 116) X dX1_after_25 (by decide) h (fun c9 h => ?_) (fun c9 h => ?_)
      · refine r_aload_n X 0 dX1_after_28 rfl rfl ?_
        refine r_aload_n X 0 dX1_after_29 rfl rfl ?_
        refine r_getA (kf := 12) X ho0.1 rfl (by decide) (by decide) (Or.inl q319) dX1_after_30 ?_
        refine r_iload X 4 dX1_after_33 rfl ?_
        refine r_aald X ho0.1 (ho0.2 12 (by decide)) rfl rfl (by decide) rfl (by decide) dX1_after_35 h (fun b10 h => ?_)
        obtain ⟨r12, h11, h⟩ := bd_some h
        refine r_cV (Wd := 0) X (fun l D sz => w_X1_kindOf l D sz h11) ho0.1 rfl q1017 qs33 q1015 q104 q1018 hy_X1_kindOf rfl dX1_after_36 rfl rfl (Nat.le_of_ble_eq_true rfl) ⟨Nat.le_of_ble_eq_true rfl, Nat.le_of_ble_eq_true rfl⟩ ⟨Nat.le_of_ble_eq_true rfl, Nat.le_of_ble_eq_true rfl⟩ ?_
        refine r_iconst X dX1_after_39 ?_
        refine r_icmp_eq (tgt := 74) X dX1_after_40 (by decide) h (fun c13 h => ?_) (fun c13 h => ?_)
        · exact V.sub [0, 1, 2, 3, 4] rfl (J74 (v2_1) (v3_1) (v4_1) h)
        · refine r_aload_n X 0 dX1_after_43 rfl rfl ?_
          refine r_aload_n X 0 dX1_after_44 rfl rfl ?_
          refine r_getA (kf := 12) X ho0.1 rfl (by decide) (by decide) (Or.inl q319) dX1_after_45 ?_
          refine r_iload X 4 dX1_after_48 rfl ?_
          refine r_aald X ho0.1 (ho0.2 12 (by decide)) rfl rfl (by decide) rfl (by decide) dX1_after_50 h (fun b14 h => ?_)
          obtain ⟨r16, h15, h⟩ := bd_some h
          refine r_cV (Wd := 0) X (fun l D sz => w_X1_kindOf l D sz h15) ho0.1 rfl q1017 qs33 q1015 q104 q1018 hy_X1_kindOf rfl dX1_after_51 rfl rfl (Nat.le_of_ble_eq_true rfl) ⟨Nat.le_of_ble_eq_true rfl, Nat.le_of_ble_eq_true rfl⟩ ⟨Nat.le_of_ble_eq_true rfl, Nat.le_of_ble_eq_true rfl⟩ ?_
          refine r_aload_n X 0 dX1_after_54 rfl rfl ?_
          refine r_aload_n X 0 dX1_after_55 rfl rfl ?_
          refine r_getA (kf := 12) X ho0.1 rfl (by decide) (by decide) (Or.inl q319) dX1_after_56 ?_
          refine r_iload X 4 dX1_after_59 rfl ?_
          refine r_iconst X dX1_after_61 ?_
          refine r_isub X dX1_after_62 ?_
          refine r_aald X ho0.1 (ho0.2 12 (by decide)) rfl rfl (by decide) rfl (by decide) dX1_after_63 h (fun b17 h => ?_)
          obtain ⟨r19, h18, h⟩ := bd_some h
          refine r_cV (Wd := 1) X (fun l D sz => w_X1_kindOf l D sz h18) ho0.1 rfl q1017 qs33 q1015 q104 q1018 hy_X1_kindOf rfl dX1_after_64 rfl rfl (Nat.le_of_ble_eq_true rfl) ⟨Nat.le_of_ble_eq_true rfl, Nat.le_of_ble_eq_true rfl⟩ ⟨Nat.le_of_ble_eq_true rfl, Nat.le_of_ble_eq_true rfl⟩ ?_
          refine r_icmp_ne (tgt := 74) X dX1_after_67 (by decide) h (fun c20 h => ?_) (fun c20 h => ?_)
          · refine r_iconst X dX1_after_70 ?_
            refine r_goto (tgt := 75) X dX1_after_71 (by decide) ?_
            exact V.sub [0, 1, 2, 3, 4] rfl (J75 (v2_1) (v3_1) (v4_1) (1) h)
          · exact V.sub [0, 1, 2, 3, 4] rfl (J74 (v2_1) (v3_1) (v4_1) h)
      · have h := ex_some h ihe1
        refine r_iload_n X 2 dX1_after_116 rfl rfl ?_
        refine r_iload_n X 3 dX1_after_117 rfl rfl ?_
        obtain ⟨r22, h21, h⟩ := bd_some h
        refine r_cS (Wd := 0) X (fun l D sz => w_X1_mean l D sz h21) q1009 q1008 q104 q1010 hy_X1_mean rfl dX1_after_118 rfl rfl (Nat.le_of_ble_eq_true rfl) ⟨Nat.le_of_ble_eq_true rfl, Nat.le_of_ble_eq_true rfl⟩ ⟨Nat.le_of_ble_eq_true rfl, Nat.le_of_ble_eq_true rfl⟩ ?_
        cases h
        exact r_iret X hr dX1_after_121
    exact V.sub [3, 4, 2, 1, 0] rfl (L19 (0, 0, 1) h)
theorem hy_X1_isLearnt : yX1_isLearnt.cls ≠ "java/lang/invoke/MethodHandle" ∧ yX1_isLearnt.cls ≠ "java/lang/invoke/VarHandle" ∧ (parseMethodDescriptor yX1_isLearnt.desc).map (fun d => d.parameters.length) = some 4 := by decide +kernel
set_option maxHeartbeats 4000000 in
theorem w_X1_isLearnt (l : Launch) (D : DD) (sz : Nat) {σ : St} {a0 : Nat} {p1 : Nat} {p2 : Nat} {x3 : Int} {x4 : Int} {w : Int × St} (h : f_X1_isLearnt σ a0 p1 p2 x3 x4 = some w) : Mt l yX1_isLearnt cX1_isLearnt 6 (some FieldType.boolean) ({ frames := 10, cells := 0, slots := 0, locals := 154 } : Room) D sz σ [.ref a0, .ref (p1), .ref (p2), iv (x3), iv (x4)] (.returned (some (iv w.1))) (w.2) 0 0 := by
  refine Mt.of (by decide +kernel) (Nat.le_of_ble_eq_true rfl) ?_
  intro Γ X hr hnl hini hnoh
  have X : Cx Γ cX1_isLearnt "DayBoy" _ := X
  have hL : ∀ i, i < 6 → i < nLc Γ := fun i q => by rw [hnl]; exact q
  show V Γ σ 0 0 0 [(0, .ref (a0)), (1, .ref (p1)), (2, .ref (p2)), (3, iv (x3)), (4, iv (x4))] []
  unfold f_X1_isLearnt at h
  obtain ⟨ho0, h⟩ := cO_some h
  refine r_iconst X dX1_isLearnt_0 ?_
  refine r_istore X dX1_isLearnt_1 (hL 5 (by decide)) (lv' := [(5, iv (0)), (0, .ref (a0)), (1, .ref (p1)), (2, .ref (p2)), (3, iv (x3)), (4, iv (x4))]) rfl ?_
  have L3 : ∀ s : Int × St, lp (fun s => f_X1_isLearnt_b3 (a0) (p1) (p2) (x3) (x4) s.1 s.2) s = some w → V Γ (s.2) 0 0 3 [(0, .ref (a0)), (1, .ref (p1)), (2, .ref (p2)), (3, iv (x3)), (4, iv (x4)), (5, iv (s.1))] [] := by
    refine lp_rule (P := fun s : Int × St => V Γ (s.2) 0 0 3 [(0, .ref (a0)), (1, .ref (p1)), (2, .ref (p2)), (3, iv (x3)), (4, iv (x4)), (5, iv (s.1))] []) ?_
    intro s z1 h ihb1 ihe1
    obtain ⟨v5_1, σ_1⟩ := s
    have h : f_X1_isLearnt_b3 (a0) (p1) (p2) (x3) (x4) v5_1 σ_1 = some z1 := h
    unfold f_X1_isLearnt_b3 at h
    show V Γ σ_1 0 0 3 [(0, .ref (a0)), (1, .ref (p1)), (2, .ref (p2)), (3, iv (x3)), (4, iv (x4)), (5, iv (v5_1))] []
    have J33 : ∀ (v5_j33 : Int) (t0_j33 : Nat) (t1_j33 : Nat) (σ_j33 : St), f_X1_isLearnt_j33 (a0) (p1) (p2) (x3) (x4) v5_j33 t0_j33 t1_j33 σ_j33 = some z1 → V Γ σ_j33 0 0 33 [(0, .ref (a0)), (1, .ref (p1)), (2, .ref (p2)), (3, iv (x3)), (4, iv (x4)), (5, iv (v5_j33))] [.ref (t0_j33), .ref (t1_j33)] := by
      intro v5_j33 t0_j33 t1_j33 σ_j33 h
      unfold f_X1_isLearnt_j33 at h
      refine r_aload_n X 0 dX1_isLearnt_33 rfl rfl ?_
      obtain ⟨ho1, h⟩ := cO_some h
      refine r_getA (kf := 12) X ho1.1 rfl (by decide) (by decide) (Or.inl q319) dX1_isLearnt_34 ?_
      refine r_iload X 5 dX1_isLearnt_37 rfl ?_
      refine r_aald X ho1.1 (ho1.2 12 (by decide)) rfl rfl (by decide) rfl (by decide) dX1_isLearnt_39 h (fun b2 h => ?_)
      refine r_iload_n X 3 dX1_isLearnt_40 rfl rfl ?_
      obtain ⟨ho4, h⟩ := cO_some h
      obtain ⟨r5, σ6, h3, h⟩ := bd2_some h
      refine r_cV (Wd := 0) X (fun l D sz => w_X1_isSo l D sz h3) ho4.1 rfl q975 qs31 q973 q104 q976 hy_X1_isSo rfl dX1_isLearnt_41 rfl rfl (Nat.le_of_ble_eq_true rfl) ⟨Nat.le_of_ble_eq_true rfl, Nat.le_of_ble_eq_true rfl⟩ ⟨Nat.le_of_ble_eq_true rfl, Nat.le_of_ble_eq_true rfl⟩ ?_
      refine r_if_ne (tgt := 49) X dX1_isLearnt_44 (by decide) h (fun c7 h => ?_) (fun c7 h => ?_)
      · have h := ex_some h ihe1
        refine r_iconst X dX1_isLearnt_47 ?_
        cases h
        exact r_zret X hr (by decide) dX1_isLearnt_48
      · refine r_iinc X 5 dX1_isLearnt_49 rfl (hL 5 (by decide)) (lv' := [(5, iv ((v5_j33 + 1))), (0, .ref (a0)), (1, .ref (p1)), (2, .ref (p2)), (3, iv (x3)), (4, iv (x4))]) rfl ?_
        refine r_goto (tgt := 3) X dX1_isLearnt_52 (by decide) ?_
        exact V.sub [1, 2, 3, 4, 5, 0] rfl (ihb1 _ (Option.some.inj h).symm)
    refine r_iload X 5 dX1_isLearnt_3 rfl ?_
    refine r_aload_n X 0 dX1_isLearnt_5 rfl rfl ?_
    obtain ⟨ho9, h⟩ := cO_some h
    refine r_getI (kf := 13) X ho9.1 rfl (by decide) rfl (Or.inl q320) dX1_isLearnt_6 ?_
    refine r_icmp_ge (tgt := 55) X dX1_isLearnt_9 (by decide) h (fun c10 h => ?_) (fun c10 h => ?_)
    · refine r_aload_n X 0 dX1_isLearnt_12 rfl rfl ?_
      refine r_aload_n X 0 dX1_isLearnt_13 rfl rfl ?_
      refine r_getA (kf := 12) X ho9.1 rfl (by decide) (by decide) (Or.inl q319) dX1_isLearnt_14 ?_
      refine r_iload X 5 dX1_isLearnt_17 rfl ?_
      refine r_aald X ho9.1 (ho9.2 12 (by decide)) rfl rfl (by decide) rfl (by decide) dX1_isLearnt_19 h (fun b11 h => ?_)
      obtain ⟨ho12, h⟩ := cO_some h
      refine r_getI (kf := 0) X ho12.1 rfl (by decide) rfl (Or.inr ⟨_, q925⟩) dX1_isLearnt_20 ?_
      refine r_iload X 4 dX1_isLearnt_23 rfl ?_
      refine r_icmp_ge (tgt := 32) X dX1_isLearnt_25 (by decide) h (fun c13 h => ?_) (fun c13 h => ?_)
      · refine r_aload_n X 1 dX1_isLearnt_28 rfl rfl ?_
        refine r_goto (tgt := 33) X dX1_isLearnt_29 (by decide) ?_
        exact V.sub [0, 1, 2, 3, 4, 5] rfl (J33 (v5_1) (p1) (a0) (σ_1) h)
      · refine r_aload_n X 2 dX1_isLearnt_32 rfl rfl ?_
        exact V.sub [0, 1, 2, 3, 4, 5] rfl (J33 (v5_1) (p2) (a0) (σ_1) h)
    · have h := ex_some h ihe1
      refine r_iconst X dX1_isLearnt_55 ?_
      cases h
      exact r_zret X hr (by decide) dX1_isLearnt_56
  exact V.sub [1, 2, 3, 4, 5, 0] rfl (L3 (0, σ) h)
theorem hy_X1_learnt : yX1_learnt.cls ≠ "java/lang/invoke/MethodHandle" ∧ yX1_learnt.cls ≠ "java/lang/invoke/VarHandle" ∧ (parseMethodDescriptor yX1_learnt.desc).map (fun d => d.parameters.length) = some 4 := by decide +kernel
set_option maxHeartbeats 4000000 in
theorem w_X1_learnt (l : Launch) (D : DD) (sz : Nat) {σ : St} {a0 : Nat} {x1 : Int} {x2 : Int} {x3 : Int} {x4 : Int} {w : Int × St} (h : f_X1_learnt σ a0 x1 x2 x3 x4 = some w) : Mt l yX1_learnt cX1_learnt 7 (some FieldType.int) ({ frames := 11, cells := 0, slots := 0, locals := 171 } : Room) D sz σ [.ref a0, iv (x1), iv (x2), iv (x3), iv (x4)] (.returned (some (iv w.1))) (w.2) 0 0 := by
  refine Mt.of (by decide +kernel) (Nat.le_of_ble_eq_true rfl) ?_
  intro Γ X hr hnl hini hnoh
  have X : Cx Γ cX1_learnt "DayBoy" _ := X
  have hL : ∀ i, i < 7 → i < nLc Γ := fun i q => by rw [hnl]; exact q
  show V Γ σ 0 0 0 [(0, .ref (a0)), (1, iv (x1)), (2, iv (x2)), (3, iv (x3)), (4, iv (x4))] []
  unfold f_X1_learnt at h
  obtain ⟨ho0, h⟩ := cO_some h
  refine r_aload_n X 0 dX1_learnt_0 rfl rfl ?_
  refine r_iload_n X 1 dX1_learnt_1 rfl rfl ?_
  obtain ⟨r2, h1, h⟩ := bd_some h
  refine r_cV (Wd := 0) X (fun l D sz => w_X1_isHead l D sz h1) ho0.1 rfl q852 qs27 q850 q104 q853 hy_X1_isHead rfl dX1_learnt_2 rfl rfl (Nat.le_of_ble_eq_true rfl) ⟨Nat.le_of_ble_eq_true rfl, Nat.le_of_ble_eq_true rfl⟩ ⟨Nat.le_of_ble_eq_true rfl, Nat.le_of_ble_eq_true rfl⟩ ?_
  refine r_if_eq (tgt := 34) X dX1_learnt_5 (by decide) h (fun c3 h => ?_) (fun c3 h => ?_)
  · refine r_iconst X dX1_learnt_34 ?_
    cases h
    exact r_iret X hr dX1_learnt_35
  · refine r_aload_n X 0 dX1_learnt_8 rfl rfl ?_
    refine r_iload_n X 2 dX1_learnt_9 rfl rfl ?_
    obtain ⟨r5, h4, h⟩ := bd_some h
    refine r_cV (Wd := 0) X (fun l D sz => w_X1_isHead l D sz h4) ho0.1 rfl q852 qs27 q850 q104 q853 hy_X1_isHead rfl dX1_learnt_10 rfl rfl (Nat.le_of_ble_eq_true rfl) ⟨Nat.le_of_ble_eq_true rfl, Nat.le_of_ble_eq_true rfl⟩ ⟨Nat.le_of_ble_eq_true rfl, Nat.le_of_ble_eq_true rfl⟩ ?_
    refine r_if_eq (tgt := 34) X dX1_learnt_13 (by decide) h (fun c6 h => ?_) (fun c6 h => ?_)
    · refine r_iconst X dX1_learnt_34 ?_
      cases h
      exact r_iret X hr dX1_learnt_35
    · refine r_iload_n X 3 dX1_learnt_16 rfl rfl ?_
      obtain ⟨r8, h7, h⟩ := bd_some h
      refine r_cS (Wd := 0) X (fun l D sz => w_X1_isSlack l D sz h7) q967 q966 q104 q968 hy_X1_isSlack rfl dX1_learnt_17 rfl rfl (Nat.le_of_ble_eq_true rfl) ⟨Nat.le_of_ble_eq_true rfl, Nat.le_of_ble_eq_true rfl⟩ ⟨Nat.le_of_ble_eq_true rfl, Nat.le_of_ble_eq_true rfl⟩ ?_
      refine r_if_eq (tgt := 34) X dX1_learnt_20 (by decide) h (fun c9 h => ?_) (fun c9 h => ?_)
      · refine r_iconst X dX1_learnt_34 ?_
        cases h
        exact r_iret X hr dX1_learnt_35
      · refine r_iload X 4 dX1_learnt_23 rfl ?_
        obtain ⟨c10, h⟩ := ck_some h
        refine r_i2l X dX1_learnt_25 c10 ?_
        refine r_lconst (y := 0) X dX1_learnt_26 rfl ?_
        refine r_lconst (y := 1) X dX1_learnt_27 rfl ?_
        obtain ⟨r12, h11, h⟩ := bd_some h
        refine r_cS (Wd := 0) X (fun l D sz => w_X1_isIn l D sz h11) q414 q413 q104 q415 hy_X1_isIn rfl dX1_learnt_28 rfl rfl (Nat.le_of_ble_eq_true rfl) ⟨Nat.le_of_ble_eq_true rfl, Nat.le_of_ble_eq_true rfl⟩ ⟨Nat.le_of_ble_eq_true rfl, Nat.le_of_ble_eq_true rfl⟩ ?_
        refine r_if_ne (tgt := 36) X dX1_learnt_31 (by decide) h (fun c13 h => ?_) (fun c13 h => ?_)
        · refine r_iconst X dX1_learnt_34 ?_
          cases h
          exact r_iret X hr dX1_learnt_35
        · refine r_iconst X dX1_learnt_36 ?_
          refine r_istore X dX1_learnt_37 (hL 5 (by decide)) (lv' := [(5, iv ((-1))), (0, .ref (a0)), (1, iv (x1)), (2, iv (x2)), (3, iv (x3)), (4, iv (x4))]) rfl ?_
          refine r_iconst X dX1_learnt_39 ?_
          refine r_istore X dX1_learnt_40 (hL 6 (by decide)) (lv' := [(6, iv (0)), (5, iv ((-1))), (0, .ref (a0)), (1, iv (x1)), (2, iv (x2)), (3, iv (x3)), (4, iv (x4))]) rfl ?_
          have L42 : ∀ s : Int × Int × St, lp (fun s => f_X1_learnt_b42 (a0) (x1) (x2) (x3) (x4) s.1 s.2.1 s.2.2) s = some w → V Γ (s.2.2) 0 0 42 [(0, .ref (a0)), (1, iv (x1)), (2, iv (x2)), (3, iv (x3)), (4, iv (x4)), (5, iv (s.1)), (6, iv (s.2.1))] [] := by
            refine lp_rule (P := fun s : Int × Int × St => V Γ (s.2.2) 0 0 42 [(0, .ref (a0)), (1, iv (x1)), (2, iv (x2)), (3, iv (x3)), (4, iv (x4)), (5, iv (s.1)), (6, iv (s.2.1))] []) ?_
            intro s z1 h ihb1 ihe1
            obtain ⟨v5_1, v6_1, σ_1⟩ := s
            have h : f_X1_learnt_b42 (a0) (x1) (x2) (x3) (x4) v5_1 v6_1 σ_1 = some z1 := h
            unfold f_X1_learnt_b42 at h
            show V Γ σ_1 0 0 42 [(0, .ref (a0)), (1, iv (x1)), (2, iv (x2)), (3, iv (x3)), (4, iv (x4)), (5, iv (v5_1)), (6, iv (v6_1))] []
            have J62 : ∀ (v5_j62 : Int) (v6_j62 : Int) (σ_j62 : St), f_X1_learnt_j62 (a0) (x1) (x2) (x3) (x4) v5_j62 v6_j62 σ_j62 = some z1 → V Γ σ_j62 0 0 62 [(0, .ref (a0)), (1, iv (x1)), (2, iv (x2)), (3, iv (x3)), (4, iv (x4)), (5, iv (v5_j62)), (6, iv (v6_j62))] [] := by
              intro v5_j62 v6_j62 σ_j62 h
              unfold f_X1_learnt_j62 at h
              refine r_aload_n X 0 dX1_learnt_62 rfl rfl ?_
              refine r_aload_n X 0 dX1_learnt_63 rfl rfl ?_
              obtain ⟨ho14, h⟩ := cO_some h
              refine r_getA (kf := 5) X ho14.1 rfl (by decide) (by decide) (Or.inl q311) dX1_learnt_64 ?_
              refine r_iload_n X 1 dX1_learnt_67 rfl rfl ?_
              refine r_aald X ho14.1 (ho14.2 5 (by decide)) rfl rfl (by decide) rfl (by decide) dX1_learnt_68 h (fun b15 h => ?_)
              refine r_aload_n X 0 dX1_learnt_69 rfl rfl ?_
              refine r_getA (kf := 5) X ho14.1 rfl (by decide) (by decide) (Or.inl q311) dX1_learnt_70 ?_
              refine r_iload_n X 2 dX1_learnt_73 rfl rfl ?_
              refine r_aald X ho14.1 (ho14.2 5 (by decide)) rfl rfl (by decide) rfl (by decide) dX1_learnt_74 h (fun b16 h => ?_)
              refine r_iload_n X 3 dX1_learnt_75 rfl rfl ?_
              refine r_iload X 6 dX1_learnt_76 rfl ?_
              obtain ⟨r18, σ19, h17, h⟩ := bd2_some h
              refine r_cV (Wd := 0) X (fun l D sz => w_X1_isLearnt l D sz h17) ho14.1 rfl q1025 qs34 q1023 q104 q1026 hy_X1_isLearnt rfl dX1_learnt_78 rfl rfl (Nat.le_of_ble_eq_true rfl) ⟨Nat.le_of_ble_eq_true rfl, Nat.le_of_ble_eq_true rfl⟩ ⟨Nat.le_of_ble_eq_true rfl, Nat.le_of_ble_eq_true rfl⟩ ?_
              refine r_if_eq (tgt := 88) X dX1_learnt_81 (by decide) h (fun c20 h => ?_) (fun c20 h => ?_)
              · refine r_iinc X 6 dX1_learnt_88 rfl (hL 6 (by decide)) (lv' := [(6, iv ((v6_j62 + 1))), (0, .ref (a0)), (1, iv (x1)), (2, iv (x2)), (3, iv (x3)), (4, iv (x4)), (5, iv (v5_j62))]) rfl ?_
                refine r_goto (tgt := 42) X dX1_learnt_91 (by decide) ?_
                exact V.sub [1, 2, 3, 4, 5, 6, 0] rfl (ihb1 _ (Option.some.inj h).symm)
              · refine r_iload X 6 dX1_learnt_84 rfl ?_
                refine r_istore X dX1_learnt_86 (hL 5 (by decide)) (lv' := [(5, iv (v6_j62)), (0, .ref (a0)), (1, iv (x1)), (2, iv (x2)), (3, iv (x3)), (4, iv (x4)), (6, iv (v6_j62))]) rfl ?_
                refine r_iinc X 6 dX1_learnt_88 rfl (hL 6 (by decide)) (lv' := [(6, iv ((v6_j62 + 1))), (5, iv (v6_j62)), (0, .ref (a0)), (1, iv (x1)), (2, iv (x2)), (3, iv (x3)), (4, iv (x4))]) rfl ?_
                refine r_goto (tgt := 42) X dX1_learnt_91 (by decide) ?_
                exact V.sub [2, 3, 4, 5, 6, 1, 0] rfl (ihb1 _ (Option.some.inj h).symm)
            refine r_iload X 6 dX1_learnt_42 rfl ?_
            refine r_sipush X dX1_learnt_44 (by decide) ?_
            refine r_icmp_gt (tgt := 94) X dX1_learnt_47 (by decide) h (fun c21 h => ?_) (fun c21 h => ?_)
            · have h := ex_some h ihe1
              refine r_iload X 5 dX1_learnt_94 rfl ?_
              cases h
              exact r_iret X hr dX1_learnt_96
            · refine r_iload X 4 dX1_learnt_50 rfl ?_
              refine r_iconst X dX1_learnt_52 ?_
              refine r_icmp_eq (tgt := 62) X dX1_learnt_53 (by decide) h (fun c22 h => ?_) (fun c22 h => ?_)
              · exact V.sub [0, 1, 2, 3, 4, 5, 6] rfl (J62 (v5_1) (v6_1) (σ_1) h)
              · refine r_iload X 5 dX1_learnt_56 rfl ?_
                refine r_iconst X dX1_learnt_58 ?_
                refine r_icmp_ne (tgt := 94) X dX1_learnt_59 (by decide) h (fun c23 h => ?_) (fun c23 h => ?_)
                · exact V.sub [0, 1, 2, 3, 4, 5, 6] rfl (J62 (v5_1) (v6_1) (σ_1) h)
                · have h := ex_some h ihe1
                  refine r_iload X 5 dX1_learnt_94 rfl ?_
                  cases h
                  exact r_iret X hr dX1_learnt_96
          exact V.sub [2, 3, 4, 5, 6, 1, 0] rfl (L42 ((-1), 0, σ) h)
theorem hy_X1_weigh : yX1_weigh.cls ≠ "java/lang/invoke/MethodHandle" ∧ yX1_weigh.cls ≠ "java/lang/invoke/VarHandle" ∧ (parseMethodDescriptor yX1_weigh.desc).map (fun d => d.parameters.length) = some 2 := by decide +kernel
set_option maxHeartbeats 4000000 in
theorem w_X1_weigh (l : Launch) (D : DD) (sz : Nat) {σ : St} {a0 : Nat} {x1 : Int} {x2 : Int} {w : Int × St} (h : f_X1_weigh σ a0 x1 x2 = some w) : Mt l yX1_weigh cX1_weigh 3 (some FieldType.boolean) ({ frames := 1, cells := 0, slots := 0, locals := 17 } : Room) D sz σ [.ref a0, iv (x1), iv (x2)] (.returned (some (iv w.1))) (w.2) 0 0 := by
  refine Mt.of (by decide +kernel) (Nat.le_of_ble_eq_true rfl) ?_
  intro Γ X hr hnl hini hnoh
  have X : Cx Γ cX1_weigh "DayBoy" _ := X
  have hL : ∀ i, i < 3 → i < nLc Γ := fun i q => by rw [hnl]; exact q
  show V Γ σ 0 0 0 [(0, .ref (a0)), (1, iv (x1)), (2, iv (x2))] []
  unfold f_X1_weigh at h
  obtain ⟨ho0, h⟩ := cO_some h
  refine r_aload_n X 0 dX1_weigh_0 rfl rfl ?_
  refine r_iload_n X 1 dX1_weigh_1 rfl rfl ?_
  obtain ⟨r2, h1, h⟩ := bd_some h
  refine r_cV (Wd := 0) X (fun l D sz => w_X1_isHead l D sz h1) ho0.1 rfl q852 qs27 q850 q104 q853 hy_X1_isHead rfl dX1_weigh_2 rfl rfl (Nat.le_of_ble_eq_true rfl) ⟨Nat.le_of_ble_eq_true rfl, Nat.le_of_ble_eq_true rfl⟩ ⟨Nat.le_of_ble_eq_true rfl, Nat.le_of_ble_eq_true rfl⟩ ?_
  refine r_if_eq (tgt := 20) X dX1_weigh_5 (by decide) h (fun c3 h => ?_) (fun c3 h => ?_)
  · refine r_iconst X dX1_weigh_20 ?_
    cases h
    exact r_zret X hr (by decide) dX1_weigh_21
  · refine r_iload_n X 2 dX1_weigh_8 rfl rfl ?_
    obtain ⟨c5, h⟩ := ck_some h
    refine r_i2l X dX1_weigh_9 c5 ?_
    refine r_lconst (y := 1) X dX1_weigh_10 rfl ?_
    refine r_ldc2 (z := 9) X q1031 dX1_weigh_11 rfl ?_
    obtain ⟨r7, h6, h⟩ := bd_some h
    refine r_cS (Wd := 0) X (fun l D sz => w_X1_isIn l D sz h6) q414 q413 q104 q415 hy_X1_isIn rfl dX1_weigh_14 rfl rfl (Nat.le_of_ble_eq_true rfl) ⟨Nat.le_of_ble_eq_true rfl, Nat.le_of_ble_eq_true rfl⟩ ⟨Nat.le_of_ble_eq_true rfl, Nat.le_of_ble_eq_true rfl⟩ ?_
    refine r_if_ne (tgt := 22) X dX1_weigh_17 (by decide) h (fun c8 h => ?_) (fun c8 h => ?_)
    · refine r_iconst X dX1_weigh_20 ?_
      cases h
      exact r_zret X hr (by decide) dX1_weigh_21
    · refine r_aload_n X 0 dX1_weigh_22 rfl rfl ?_
      refine r_getA (kf := 5) X ho0.1 rfl (by decide) (by decide) (Or.inl q311) dX1_weigh_23 ?_
      refine r_iload_n X 1 dX1_weigh_26 rfl rfl ?_
      refine r_aald X ho0.1 (ho0.2 5 (by decide)) rfl rfl (by decide) rfl (by decide) dX1_weigh_27 h (fun b10 h => ?_)
      refine r_iload_n X 2 dX1_weigh_28 rfl rfl ?_
      obtain ⟨ho11, h⟩ := cO_some h
      refine r_putI (kf := 16) X ho11.1 rfl (by decide) rfl rfl (Or.inr ⟨_, q246⟩) dX1_weigh_29 rfl ?_
      refine r_let h (fun σ12 eσ12 h => ?_)
      refine r_iconst X dX1_weigh_32 ?_
      cases h
      exact r_zret X hr (by decide) dX1_weigh_33
theorem hy_X1_odds : yX1_odds.cls ≠ "java/lang/invoke/MethodHandle" ∧ yX1_odds.cls ≠ "java/lang/invoke/VarHandle" ∧ (parseMethodDescriptor yX1_odds.desc).map (fun d => d.parameters.length) = some 2 := by decide +kernel
set_option maxHeartbeats 4000000 in
theorem w_X1_odds (l : Launch) (D : DD) (sz : Nat) {σ : St} {a0 : Nat} {x1 : Int} {x2 : Int} {w : Int × St} (h : f_X1_odds σ a0 x1 x2 = some w) : Mt l yX1_odds cX1_odds 5 (some FieldType.int) ({ frames := 11, cells := 0, slots := 0, locals := 172 } : Room) D sz σ [.ref a0, iv (x1), iv (x2)] (.returned (some (iv w.1))) (w.2) 0 0 := by
  refine Mt.of (by decide +kernel) (Nat.le_of_ble_eq_true rfl) ?_
  intro Γ X hr hnl hini hnoh
  have X : Cx Γ cX1_odds "DayBoy" _ := X
  have hL : ∀ i, i < 5 → i < nLc Γ := fun i q => by rw [hnl]; exact q
  show V Γ σ 0 0 0 [(0, .ref (a0)), (1, iv (x1)), (2, iv (x2))] []
  unfold f_X1_odds at h
  obtain ⟨ho0, h⟩ := cO_some h
  have J13 : ∀ (σ_j13 : St), f_X1_odds_j13 (a0) (x1) (x2) σ_j13 = some w → V Γ σ_j13 0 0 13 [(0, .ref (a0)), (1, iv (x1)), (2, iv (x2))] [] := by
    intro σ_j13 h
    unfold f_X1_odds_j13 at h
    refine r_iload_n X 2 dX1_odds_13 rfl rfl ?_
    obtain ⟨r2, h1, h⟩ := bd_some h
    refine r_cS (Wd := 0) X (fun l D sz => w_X1_isSlack l D sz h1) q967 q966 q104 q968 hy_X1_isSlack rfl dX1_odds_14 rfl rfl (Nat.le_of_ble_eq_true rfl) ⟨Nat.le_of_ble_eq_true rfl, Nat.le_of_ble_eq_true rfl⟩ ⟨Nat.le_of_ble_eq_true rfl, Nat.le_of_ble_eq_true rfl⟩ ?_
    refine r_if_ne (tgt := 22) X dX1_odds_17 (by decide) h (fun c3 h => ?_) (fun c3 h => ?_)
    · refine r_iconst X dX1_odds_20 ?_
      cases h
      exact r_iret X hr dX1_odds_21
    · refine r_iconst X dX1_odds_22 ?_
      refine r_istore_n X dX1_odds_23 rfl (hL 3 (by decide)) (lv' := [(3, iv (0)), (0, .ref (a0)), (1, iv (x1)), (2, iv (x2))]) rfl ?_
      refine r_iconst X dX1_odds_24 ?_
      refine r_istore X dX1_odds_25 (hL 4 (by decide)) (lv' := [(4, iv (0)), (3, iv (0)), (0, .ref (a0)), (1, iv (x1)), (2, iv (x2))]) rfl ?_
      have L27 : ∀ s : Int × Int × St, lp (fun s => f_X1_odds_b27 (a0) (x1) (x2) s.1 s.2.1 s.2.2) s = some w → V Γ (s.2.2) 0 0 27 [(0, .ref (a0)), (1, iv (x1)), (2, iv (x2)), (3, iv (s.1)), (4, iv (s.2.1))] [] := by
        refine lp_rule (P := fun s : Int × Int × St => V Γ (s.2.2) 0 0 27 [(0, .ref (a0)), (1, iv (x1)), (2, iv (x2)), (3, iv (s.1)), (4, iv (s.2.1))] []) ?_
        intro s z1 h ihb1 ihe1
        obtain ⟨v3_1, v4_1, σ_1⟩ := s
        have h : f_X1_odds_b27 (a0) (x1) (x2) v3_1 v4_1 σ_1 = some z1 := h
        unfold f_X1_odds_b27 at h
        show V Γ σ_1 0 0 27 [(0, .ref (a0)), (1, iv (x1)), (2, iv (x2)), (3, iv (v3_1)), (4, iv (v4_1))] []
        have J48 : ∀ (v4_j48 : Int) (t0_j48 : Int) (σ_j48 : St), f_X1_odds_j48 (a0) (x1) (x2) v4_j48 t0_j48 σ_j48 = some z1 → V Γ σ_j48 0 0 48 [(0, .ref (a0)), (1, iv (x1)), (2, iv (x2)), (4, iv (v4_j48))] [iv (t0_j48)] := by
          intro v4_j48 t0_j48 σ_j48 h
          unfold f_X1_odds_j48 at h
          refine r_aload_n X 0 dX1_odds_48 rfl rfl ?_
          refine r_aload_n X 0 dX1_odds_49 rfl rfl ?_
          obtain ⟨ho4, h⟩ := cO_some h
          refine r_getA (kf := 5) X ho4.1 rfl (by decide) (by decide) (Or.inl q311) dX1_odds_50 ?_
          refine r_iload X 3 dX1_odds_53 rfl ?_
          refine r_aald X ho4.1 (ho4.2 5 (by decide)) rfl rfl (by decide) rfl (by decide) dX1_odds_55 h (fun b5 h => ?_)
          refine r_iload_n X 2 dX1_odds_56 rfl rfl ?_
          obtain ⟨r7, σ8, h6, h⟩ := bd2_some h
          refine r_cV (Wd := 1) X (fun l D sz => w_X1_soMany l D sz h6) ho4.1 rfl q971 qs30 q969 q104 q972 hy_X1_soMany rfl dX1_odds_57 rfl rfl (Nat.le_of_ble_eq_true rfl) ⟨Nat.le_of_ble_eq_true rfl, Nat.le_of_ble_eq_true rfl⟩ ⟨Nat.le_of_ble_eq_true rfl, Nat.le_of_ble_eq_true rfl⟩ ?_
          refine r_aload_n X 0 dX1_odds_60 rfl rfl ?_
          obtain ⟨ho9, h⟩ := cO_some h
          refine r_getI (kf := 13) X ho9.1 rfl (by decide) rfl (Or.inl q320) dX1_odds_61 ?_
          refine r_icmp_ne (tgt := 80) X dX1_odds_64 (by decide) h (fun c10 h => ?_) (fun c10 h => ?_)
          · refine r_aload_n X 0 dX1_odds_67 rfl rfl ?_
            refine r_getA (kf := 5) X ho9.1 rfl (by decide) (by decide) (Or.inl q311) dX1_odds_68 ?_
            refine r_iload X 3 dX1_odds_71 rfl ?_
            refine r_aald X ho9.1 (ho9.2 5 (by decide)) rfl rfl (by decide) rfl (by decide) dX1_odds_73 h (fun b11 h => ?_)
            obtain ⟨ho12, h⟩ := cO_some h
            refine r_getI (kf := 16) X ho12.1 rfl (by decide) rfl (Or.inr ⟨_, q246⟩) dX1_odds_74 ?_
            refine r_goto (tgt := 81) X dX1_odds_77 (by decide) ?_
            refine r_iadd X dX1_odds_81 ?_
            refine r_istore_n X dX1_odds_82 rfl (hL 3 (by decide)) (lv' := [(3, iv ((t0_j48 + (gI (σ8) (b11) 16 0)))), (0, .ref (a0)), (1, iv (x1)), (2, iv (x2)), (4, iv (v4_j48))]) rfl ?_
            refine r_iinc X 4 dX1_odds_83 rfl (hL 4 (by decide)) (lv' := [(4, iv ((v4_j48 + 1))), (3, iv ((t0_j48 + (gI (σ8) (b11) 16 0)))), (0, .ref (a0)), (1, iv (x1)), (2, iv (x2))]) rfl ?_
            refine r_goto (tgt := 27) X dX1_odds_86 (by decide) ?_
            exact V.sub [2, 3, 4, 1, 0] rfl (ihb1 _ (Option.some.inj h).symm)
          · refine r_iconst X dX1_odds_80 ?_
            refine r_iadd X dX1_odds_81 ?_
            refine r_istore_n X dX1_odds_82 rfl (hL 3 (by decide)) (lv' := [(3, iv ((t0_j48 + 0))), (0, .ref (a0)), (1, iv (x1)), (2, iv (x2)), (4, iv (v4_j48))]) rfl ?_
            refine r_iinc X 4 dX1_odds_83 rfl (hL 4 (by decide)) (lv' := [(4, iv ((v4_j48 + 1))), (3, iv ((t0_j48 + 0))), (0, .ref (a0)), (1, iv (x1)), (2, iv (x2))]) rfl ?_
            refine r_goto (tgt := 27) X dX1_odds_86 (by decide) ?_
            exact V.sub [2, 3, 4, 1, 0] rfl (ihb1 _ (Option.some.inj h).symm)
        refine r_iload X 4 dX1_odds_27 rfl ?_
        refine r_aload_n X 0 dX1_odds_29 rfl rfl ?_
        obtain ⟨ho13, h⟩ := cO_some h
        refine r_getI (kf := 7) X ho13.1 rfl (by decide) rfl (Or.inl q313) dX1_odds_30 ?_
        refine r_icmp_ge (tgt := 89) X dX1_odds_33 (by decide) h (fun c14 h => ?_) (fun c14 h => ?_)
        · refine r_iload_n X 3 dX1_odds_36 rfl rfl ?_
          refine r_iload_n X 1 dX1_odds_37 rfl rfl ?_
          refine r_iconst X dX1_odds_38 ?_
          refine r_icmp_eq (tgt := 48) X dX1_odds_39 (by decide) h (fun c15 h => ?_) (fun c15 h => ?_)
          · exact V.sub [0, 1, 2, 4] rfl (J48 (v4_1) (v3_1) (σ_1) h)
          · refine r_iload X 4 dX1_odds_42 rfl ?_
            refine r_iload_n X 1 dX1_odds_44 rfl rfl ?_
            refine r_icmp_ne (tgt := 80) X dX1_odds_45 (by decide) h (fun c16 h => ?_) (fun c16 h => ?_)
            · exact V.sub [0, 1, 2, 4] rfl (J48 (v4_1) (v3_1) (σ_1) h)
            · refine r_iconst X dX1_odds_80 ?_
              refine r_iadd X dX1_odds_81 ?_
              refine r_istore_n X dX1_odds_82 rfl (hL 3 (by decide)) (lv' := [(3, iv ((v3_1 + 0))), (0, .ref (a0)), (1, iv (x1)), (2, iv (x2)), (4, iv (v4_1))]) rfl ?_
              refine r_iinc X 4 dX1_odds_83 rfl (hL 4 (by decide)) (lv' := [(4, iv ((v4_1 + 1))), (3, iv ((v3_1 + 0))), (0, .ref (a0)), (1, iv (x1)), (2, iv (x2))]) rfl ?_
              refine r_goto (tgt := 27) X dX1_odds_86 (by decide) ?_
              exact V.sub [2, 3, 4, 1, 0] rfl (ihb1 _ (Option.some.inj h).symm)
        · have h := ex_some h ihe1
          refine r_iload_n X 3 dX1_odds_89 rfl rfl ?_
          cases h
          exact r_iret X hr dX1_odds_90
      exact V.sub [2, 3, 4, 1, 0] rfl (L27 (0, 0, σ_j13) h)
  refine r_iload_n X 1 dX1_odds_0 rfl rfl ?_
  refine r_iconst X dX1_odds_1 ?_
  refine r_icmp_eq (tgt := 13) X dX1_odds_2 (by decide) h (fun c17 h => ?_) (fun c17 h => ?_)
  · exact V.sub [0, 1, 2] rfl (J13 (σ) h)
  · refine r_aload_n X 0 dX1_odds_5 rfl rfl ?_
    refine r_iload_n X 1 dX1_odds_6 rfl rfl ?_
    obtain ⟨r19, h18, h⟩ := bd_some h
    refine r_cV (Wd := 0) X (fun l D sz => w_X1_isHead l D sz h18) ho0.1 rfl q852 qs27 q850 q104 q853 hy_X1_isHead rfl dX1_odds_7 rfl rfl (Nat.le_of_ble_eq_true rfl) ⟨Nat.le_of_ble_eq_true rfl, Nat.le_of_ble_eq_true rfl⟩ ⟨Nat.le_of_ble_eq_true rfl, Nat.le_of_ble_eq_true rfl⟩ ?_
    refine r_if_eq (tgt := 20) X dX1_odds_10 (by decide) h (fun c20 h => ?_) (fun c20 h => ?_)
    · refine r_iconst X dX1_odds_20 ?_
      cases h
      exact r_iret X hr dX1_odds_21
    · exact V.sub [0, 1, 2] rfl (J13 (σ) h)
theorem hy_X1_plan : yX1_plan.cls ≠ "java/lang/invoke/MethodHandle" ∧ yX1_plan.cls ≠ "java/lang/invoke/VarHandle" ∧ (parseMethodDescriptor yX1_plan.desc).map (fun d => d.parameters.length) = some 4 := by decide +kernel
set_option maxHeartbeats 4000000 in
theorem w_X1_plan (l : Launch) (D : DD) (sz : Nat) {σ : St} {a0 : Nat} {x1 : Int} {x2 : Int} {x3 : Int} {x4 : Int} {w : Int × St} (h : f_X1_plan σ a0 x1 x2 x3 x4 = some w) : Mt l yX1_plan cX1_plan 5 (some FieldType.int) ({ frames := 8, cells := 0, slots := 0, locals := 123 } : Room) D sz σ [.ref a0, iv (x1), iv (x2), iv (x3), iv (x4)] (.returned (some (iv w.1))) (w.2) 0 0 := by
  refine Mt.of (by decide +kernel) (Nat.le_of_ble_eq_true rfl) ?_
  intro Γ X hr hnl hini hnoh
  have X : Cx Γ cX1_plan "DayBoy" _ := X
  have hL : ∀ i, i < 5 → i < nLc Γ := fun i q => by rw [hnl]; exact q
  show V Γ σ 0 0 0 [(0, .ref (a0)), (1, iv (x1)), (2, iv (x2)), (3, iv (x3)), (4, iv (x4))] []
  unfold f_X1_plan at h
  obtain ⟨ho0, h⟩ := cO_some h
  refine r_aload_n X 0 dX1_plan_0 rfl rfl ?_
  refine r_getI (kf := 20) X ho0.1 rfl (by decide) rfl (Or.inl q327) dX1_plan_1 ?_
  refine r_bipush X dX1_plan_4 (by decide) ?_
  refine r_icmp_eq (tgt := 21) X dX1_plan_6 (by decide) h (fun c1 h => ?_) (fun c1 h => ?_)
  · refine r_iconst X dX1_plan_21 ?_
    cases h
    exact r_iret X hr dX1_plan_22
  · refine r_aload_n X 0 dX1_plan_9 rfl rfl ?_
    refine r_iload_n X 1 dX1_plan_10 rfl rfl ?_
    refine r_iload_n X 2 dX1_plan_11 rfl rfl ?_
    refine r_iload_n X 3 dX1_plan_12 rfl rfl ?_
    refine r_iload X 4 dX1_plan_13 rfl ?_
    obtain ⟨r3, h2, h⟩ := bd_some h
    refine r_cV (Wd := 0) X (fun l D sz => w_X1_isDate l D sz h2) ho0.1 rfl q790 qs24 q788 q104 q791 hy_X1_isDate rfl dX1_plan_15 rfl rfl (Nat.le_of_ble_eq_true rfl) ⟨Nat.le_of_ble_eq_true rfl, Nat.le_of_ble_eq_true rfl⟩ ⟨Nat.le_of_ble_eq_true rfl, Nat.le_of_ble_eq_true rfl⟩ ?_
    refine r_if_ne (tgt := 23) X dX1_plan_18 (by decide) h (fun c4 h => ?_) (fun c4 h => ?_)
    · refine r_iconst X dX1_plan_21 ?_
      cases h
      exact r_iret X hr dX1_plan_22
    · refine r_aload_n X 0 dX1_plan_23 rfl rfl ?_
      refine r_getA (kf := 16) X ho0.1 rfl (by decide) (by decide) (Or.inl q323) dX1_plan_24 ?_
      refine r_aload_n X 0 dX1_plan_27 rfl rfl ?_
      refine r_getI (kf := 20) X ho0.1 rfl (by decide) rfl (Or.inl q327) dX1_plan_28 ?_
      refine r_iload_n X 1 dX1_plan_31 rfl rfl ?_
      refine r_iast X ho0.1 (ho0.2 16 (by decide)) rfl rfl rfl (by decide) dX1_plan_32 h (fun h => ?_)
      refine r_let h (fun σ5 eσ5 h => ?_)
      refine r_aload_n X 0 dX1_plan_33 rfl rfl ?_
      have hk6 : oc σ5 (a0) 0 := by rw [eσ5]; exact ho0
      refine r_getA (kf := 17) X hk6.1 rfl (by decide) (by decide) (Or.inl q324) dX1_plan_34 ?_
      refine r_aload_n X 0 dX1_plan_37 rfl rfl ?_
      refine r_getI (kf := 20) X hk6.1 rfl (by decide) rfl (Or.inl q327) dX1_plan_38 ?_
      refine r_iload_n X 2 dX1_plan_41 rfl rfl ?_
      refine r_iast X hk6.1 (hk6.2 17 (by decide)) rfl rfl rfl (by decide) dX1_plan_42 h (fun h => ?_)
      refine r_let h (fun σ7 eσ7 h => ?_)
      refine r_aload_n X 0 dX1_plan_43 rfl rfl ?_
      have hk8 : oc σ7 (a0) 0 := by rw [eσ7]; exact hk6
      refine r_getA (kf := 18) X hk8.1 rfl (by decide) (by decide) (Or.inl q325) dX1_plan_44 ?_
      refine r_aload_n X 0 dX1_plan_47 rfl rfl ?_
      refine r_getI (kf := 20) X hk8.1 rfl (by decide) rfl (Or.inl q327) dX1_plan_48 ?_
      refine r_iload_n X 3 dX1_plan_51 rfl rfl ?_
      refine r_iast X hk8.1 (hk8.2 18 (by decide)) rfl rfl rfl (by decide) dX1_plan_52 h (fun h => ?_)
      refine r_let h (fun σ9 eσ9 h => ?_)
      refine r_aload_n X 0 dX1_plan_53 rfl rfl ?_
      have hk10 : oc σ9 (a0) 0 := by rw [eσ9]; exact hk8
      refine r_getA (kf := 19) X hk10.1 rfl (by decide) (by decide) (Or.inl q326) dX1_plan_54 ?_
      refine r_aload_n X 0 dX1_plan_57 rfl rfl ?_
      refine r_getI (kf := 20) X hk10.1 rfl (by decide) rfl (Or.inl q327) dX1_plan_58 ?_
      refine r_iload X 4 dX1_plan_61 rfl ?_
      refine r_iast X hk10.1 (hk10.2 19 (by decide)) rfl rfl rfl (by decide) dX1_plan_63 h (fun h => ?_)
      refine r_let h (fun σ11 eσ11 h => ?_)
      refine r_aload_n X 0 dX1_plan_64 rfl rfl ?_
      refine r_dup X dX1_plan_65 rfl ?_
      have hk12 : oc σ11 (a0) 0 := by rw [eσ11]; exact hk10
      refine r_getI (kf := 20) X hk12.1 rfl (by decide) rfl (Or.inl q327) dX1_plan_66 ?_
      refine r_iconst X dX1_plan_69 ?_
      refine r_iadd X dX1_plan_70 ?_
      refine r_putI (kf := 20) X hk12.1 rfl (by decide) rfl rfl (Or.inl q327) dX1_plan_71 rfl ?_
      refine r_let h (fun σ13 eσ13 h => ?_)
      refine r_aload_n X 0 dX1_plan_74 rfl rfl ?_
      have hk14 : oc σ13 (a0) 0 := by rw [eσ13]; exact hk12
      refine r_getI (kf := 20) X hk14.1 rfl (by decide) rfl (Or.inl q327) dX1_plan_75 ?_
      refine r_iconst X dX1_plan_78 ?_
      refine r_isub X dX1_plan_79 ?_
      cases h
      exact r_iret X hr dX1_plan_80
theorem hy_X1_areHeads : yX1_areHeads.cls ≠ "java/lang/invoke/MethodHandle" ∧ yX1_areHeads.cls ≠ "java/lang/invoke/VarHandle" ∧ (parseMethodDescriptor yX1_areHeads.desc).map (fun d => d.parameters.length) = some 1 := by decide +kernel
set_option maxHeartbeats 4000000 in
theorem w_X1_areHeads (l : Launch) (D : DD) (sz : Nat) {σ : St} {a0 : Nat} {x1 : Int} {w : Int} (h : f_X1_areHeads σ a0 x1 = some w) : Mt l yX1_areHeads cX1_areHeads 2 (some FieldType.boolean) ({ frames := 0, cells := 0, slots := 0, locals := 0 } : Room) D sz σ [.ref a0, iv (x1)] (.returned (some (iv w))) (σ) 0 0 := by
  refine Mt.of (by decide +kernel) (Nat.le_of_ble_eq_true rfl) ?_
  intro Γ X hr hnl hini hnoh
  have X : Cx Γ cX1_areHeads "DayBoy" _ := X
  have hL : ∀ i, i < 2 → i < nLc Γ := fun i q => by rw [hnl]; exact q
  show V Γ σ 0 0 0 [(0, .ref (a0)), (1, iv (x1))] []
  unfold f_X1_areHeads at h
  obtain ⟨ho0, h⟩ := cO_some h
  refine r_iload_n X 1 dX1_areHeads_0 rfl rfl ?_
  refine r_if_lt (tgt := 18) X dX1_areHeads_1 (by decide) h (fun c1 h => ?_) (fun c1 h => ?_)
  · refine r_iconst X dX1_areHeads_18 ?_
    cases h
    exact r_zret X hr (by decide) dX1_areHeads_19
  · refine r_iload_n X 1 dX1_areHeads_4 rfl rfl ?_
    refine r_iconst X dX1_areHeads_5 ?_
    refine r_aload_n X 0 dX1_areHeads_6 rfl rfl ?_
    refine r_getI (kf := 7) X ho0.1 rfl (by decide) rfl (Or.inl q313) dX1_areHeads_7 ?_
    refine r_ishl X dX1_areHeads_10 ?_
    refine r_icmp_ge (tgt := 18) X dX1_areHeads_11 (by decide) h (fun c3 h => ?_) (fun c3 h => ?_)
    · refine r_iconst X dX1_areHeads_14 ?_
      refine r_goto (tgt := 19) X dX1_areHeads_15 (by decide) ?_
      cases h
      exact r_zret X hr (by decide) dX1_areHeads_19
    · refine r_iconst X dX1_areHeads_18 ?_
      cases h
      exact r_zret X hr (by decide) dX1_areHeads_19
