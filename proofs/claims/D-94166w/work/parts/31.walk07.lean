/-! walks (printed by gen.py) -/
set_option maxRecDepth 100000
theorem hy_X6_parted : yX6_parted.cls ≠ "java/lang/invoke/MethodHandle" ∧ yX6_parted.cls ≠ "java/lang/invoke/VarHandle" ∧ (parseMethodDescriptor yX6_parted.desc).map (fun d => d.parameters.length) = some 2 := by decide +kernel
set_option maxHeartbeats 4000000 in
theorem w_X6_parted (l : Launch) (D : DD) (sz : Nat) {σ : St} {a0 : Nat} {x1 : Int} {x2 : Int} {w : Int × St} (h : f_X6_parted σ a0 x1 x2 = some w) : Mt l yX6_parted cX6_parted 3 (some FieldType.int) ({ frames := 8, cells := 0, slots := 0, locals := 142 } : Room) D sz σ [.ref a0, iv (x1), iv (x2)] (.returned (some (iv w.1))) (w.2) 0 0 := by
  refine Mt.of (by decide +kernel) (Nat.le_of_ble_eq_true rfl) ?_
  intro Γ X hr hnl hini hnoh
  have X : Cx Γ cX6_parted "DayBoyModel" _ := X
  have hL : ∀ i, i < 3 → i < nLc Γ := fun i q => by rw [hnl]; exact q
  show V Γ σ 0 0 0 [(0, .ref (a0)), (1, iv (x1)), (2, iv (x2))] []
  unfold f_X6_parted at h
  obtain ⟨ho0, h⟩ := cO_some h
  refine r_iload_n X 1 dX6_parted_0 rfl rfl ?_
  refine r_iconst X dX6_parted_1 ?_
  refine r_aload_n X 0 dX6_parted_2 rfl rfl ?_
  refine r_getI (kf := 54) X ho0.1 rfl (by decide) rfl (Or.inl q1295) dX6_parted_3 ?_
  refine r_iconst X dX6_parted_6 ?_
  refine r_isub X dX6_parted_7 ?_
  obtain ⟨r2, h1, h⟩ := bd_some h
  refine r_cS (Wd := 0) X (fun l D sz => w_X6_in l D sz h1) q1502 q1501 q109 q1503 hy_X6_in rfl dX6_parted_8 rfl rfl (Nat.le_of_ble_eq_true rfl) ⟨Nat.le_of_ble_eq_true rfl, Nat.le_of_ble_eq_true rfl⟩ ⟨Nat.le_of_ble_eq_true rfl, Nat.le_of_ble_eq_true rfl⟩ ?_
  refine r_if_eq (tgt := 31) X dX6_parted_11 (by decide) h (fun c3 h => ?_) (fun c3 h => ?_)
  · refine r_iconst X dX6_parted_31 ?_
    cases h
    exact r_iret X hr dX6_parted_32
  · refine r_aload_n X 0 dX6_parted_14 rfl rfl ?_
    refine r_iload_n X 2 dX6_parted_15 rfl rfl ?_
    obtain ⟨r5, h4, h⟩ := bd_some h
    refine r_cV (Wd := 0) X (fun l D sz => w_X6_areHeads l D sz h4) ho0.1 rfl q1762 qs89 q1760 q109 q1763 hy_X6_areHeads rfl dX6_parted_16 rfl rfl (Nat.le_of_ble_eq_true rfl) ⟨Nat.le_of_ble_eq_true rfl, Nat.le_of_ble_eq_true rfl⟩ ⟨Nat.le_of_ble_eq_true rfl, Nat.le_of_ble_eq_true rfl⟩ ?_
    refine r_if_eq (tgt := 31) X dX6_parted_19 (by decide) h (fun c6 h => ?_) (fun c6 h => ?_)
    · refine r_iconst X dX6_parted_31 ?_
      cases h
      exact r_iret X hr dX6_parted_32
    · refine r_aload_n X 0 dX6_parted_22 rfl rfl ?_
      refine r_iload_n X 1 dX6_parted_23 rfl rfl ?_
      refine r_iload_n X 2 dX6_parted_24 rfl rfl ?_
      obtain ⟨r8, σ9, h7, h⟩ := bd2_some h
      refine r_cV (Wd := 0) X (fun l D sz => w_X6_partedBy l D sz h7) ho0.1 rfl q1766 qs90 q1764 q109 q1767 hy_X6_partedBy rfl dX6_parted_25 rfl rfl (Nat.le_of_ble_eq_true rfl) ⟨Nat.le_of_ble_eq_true rfl, Nat.le_of_ble_eq_true rfl⟩ ⟨Nat.le_of_ble_eq_true rfl, Nat.le_of_ble_eq_true rfl⟩ ?_
      refine r_goto (tgt := 32) X dX6_parted_28 (by decide) ?_
      cases h
      exact r_iret X hr dX6_parted_32
theorem hy_X6_next : yX6_next.cls ≠ "java/lang/invoke/MethodHandle" ∧ yX6_next.cls ≠ "java/lang/invoke/VarHandle" ∧ (parseMethodDescriptor yX6_next.desc).map (fun d => d.parameters.length) = some 1 := by decide +kernel
set_option maxHeartbeats 4000000 in
theorem w_X6_next (l : Launch) (D : DD) (sz : Nat) {σ : St} {a0 : Nat} {x1 : Int} {w : Int × St} (h : f_X6_next σ a0 x1 = some w) : Mt l yX6_next cX6_next 6 (some FieldType.int) ({ frames := 8, cells := 0, slots := 0, locals := 142 } : Room) D sz σ [.ref a0, iv (x1)] (.returned (some (iv w.1))) (w.2) 0 0 := by
  refine Mt.of (by decide +kernel) (Nat.le_of_ble_eq_true rfl) ?_
  intro Γ X hr hnl hini hnoh
  have X : Cx Γ cX6_next "DayBoyModel" _ := X
  have hL : ∀ i, i < 6 → i < nLc Γ := fun i q => by rw [hnl]; exact q
  show V Γ σ 0 0 0 [(0, .ref (a0)), (1, iv (x1))] []
  unfold f_X6_next at h
  obtain ⟨ho0, h⟩ := cO_some h
  refine r_aload_n X 0 dX6_next_0 rfl rfl ?_
  refine r_iload_n X 1 dX6_next_1 rfl rfl ?_
  obtain ⟨r2, h1, h⟩ := bd_some h
  refine r_cV (Wd := 0) X (fun l D sz => w_X6_areHeads l D sz h1) ho0.1 rfl q1762 qs89 q1760 q109 q1763 hy_X6_areHeads rfl dX6_next_2 rfl rfl (Nat.le_of_ble_eq_true rfl) ⟨Nat.le_of_ble_eq_true rfl, Nat.le_of_ble_eq_true rfl⟩ ⟨Nat.le_of_ble_eq_true rfl, Nat.le_of_ble_eq_true rfl⟩ ?_
  refine r_if_ne (tgt := 10) X dX6_next_5 (by decide) h (fun c3 h => ?_) (fun c3 h => ?_)
  · refine r_iconst X dX6_next_8 ?_
    cases h
    exact r_iret X hr dX6_next_9
  · refine r_iconst X dX6_next_10 ?_
    refine r_istore_n X dX6_next_11 rfl (hL 2 (by decide)) (lv' := [(2, iv ((-1))), (0, .ref (a0)), (1, iv (x1))]) rfl ?_
    refine r_iconst X dX6_next_12 ?_
    refine r_istore_n X dX6_next_13 rfl (hL 3 (by decide)) (lv' := [(3, iv ((-1))), (2, iv ((-1))), (0, .ref (a0)), (1, iv (x1))]) rfl ?_
    refine r_iconst X dX6_next_14 ?_
    refine r_istore X dX6_next_15 (hL 4 (by decide)) (lv' := [(4, iv (0)), (3, iv ((-1))), (2, iv ((-1))), (0, .ref (a0)), (1, iv (x1))]) rfl ?_
    have L17 : ∀ s : Int × Int × Int × St, lp (fun s => f_X6_next_b17 (a0) (x1) s.1 s.2.1 s.2.2.1 s.2.2.2) s = some w → V Γ (s.2.2.2) 0 0 17 [(0, .ref (a0)), (1, iv (x1)), (2, iv (s.1)), (3, iv (s.2.1)), (4, iv (s.2.2.1))] [] := by
      refine lp_rule (P := fun s : Int × Int × Int × St => V Γ (s.2.2.2) 0 0 17 [(0, .ref (a0)), (1, iv (x1)), (2, iv (s.1)), (3, iv (s.2.1)), (4, iv (s.2.2.1))] []) ?_
      intro s z1 h ihb1 ihe1
      obtain ⟨v2_1, v3_1, v4_1, σ_1⟩ := s
      have h : f_X6_next_b17 (a0) (x1) v2_1 v3_1 v4_1 σ_1 = some z1 := h
      unfold f_X6_next_b17 at h
      show V Γ σ_1 0 0 17 [(0, .ref (a0)), (1, iv (x1)), (2, iv (v2_1)), (3, iv (v3_1)), (4, iv (v4_1))] []
      have J47 : ∀ (v3_j47 : Int) (v4_j47 : Int) (v5_j47 : Int) (t0_j47 : Int) (σ_j47 : St), f_X6_next_j47 (a0) (x1) v3_j47 v4_j47 v5_j47 t0_j47 σ_j47 = some z1 → V Γ σ_j47 0 0 47 [(0, .ref (a0)), (1, iv (x1)), (3, iv (v3_j47)), (4, iv (v4_j47)), (5, iv (v5_j47))] [iv (t0_j47)] := by
        intro v3_j47 v4_j47 v5_j47 t0_j47 σ_j47 h
        unfold f_X6_next_j47 at h
        refine r_istore_n X dX6_next_47 rfl (hL 2 (by decide)) (lv' := [(2, iv (t0_j47)), (0, .ref (a0)), (1, iv (x1)), (3, iv (v3_j47)), (4, iv (v4_j47)), (5, iv (v5_j47))]) rfl ?_
        refine r_iload_n X 3 dX6_next_48 rfl rfl ?_
        refine r_iload X 5 dX6_next_49 rfl ?_
        obtain ⟨r5, h4, h⟩ := bd_some h
        refine r_cS (Wd := 0) X (fun l D sz => w_J3_max l D sz h4) q1128 q1556 q115 q1129 hy_J3_max rfl dX6_next_51 rfl rfl (Nat.le_of_ble_eq_true rfl) ⟨Nat.le_of_ble_eq_true rfl, Nat.le_of_ble_eq_true rfl⟩ ⟨Nat.le_of_ble_eq_true rfl, Nat.le_of_ble_eq_true rfl⟩ ?_
        refine r_istore_n X dX6_next_54 rfl (hL 3 (by decide)) (lv' := [(3, iv (r5)), (2, iv (t0_j47)), (0, .ref (a0)), (1, iv (x1)), (4, iv (v4_j47)), (5, iv (v5_j47))]) rfl ?_
        refine r_iinc X 4 dX6_next_55 rfl (hL 4 (by decide)) (lv' := [(4, iv ((v4_j47 + 1))), (3, iv (r5)), (2, iv (t0_j47)), (0, .ref (a0)), (1, iv (x1)), (5, iv (v5_j47))]) rfl ?_
        refine r_goto (tgt := 17) X dX6_next_58 (by decide) ?_
        exact V.sub [3, 4, 2, 1, 0] rfl (ihb1 _ (Option.some.inj h).symm)
      refine r_iload X 4 dX6_next_17 rfl ?_
      refine r_aload_n X 0 dX6_next_19 rfl rfl ?_
      obtain ⟨ho6, h⟩ := cO_some h
      refine r_getI (kf := 54) X ho6.1 rfl (by decide) rfl (Or.inl q1295) dX6_next_20 ?_
      refine r_icmp_ge (tgt := 61) X dX6_next_23 (by decide) h (fun c7 h => ?_) (fun c7 h => ?_)
      · refine r_aload_n X 0 dX6_next_26 rfl rfl ?_
        refine r_iload X 4 dX6_next_27 rfl ?_
        refine r_iload_n X 1 dX6_next_29 rfl rfl ?_
        obtain ⟨r9, σ10, h8, h⟩ := bd2_some h
        refine r_cV (Wd := 0) X (fun l D sz => w_X6_partedBy l D sz h8) ho6.1 rfl q1766 qs90 q1764 q109 q1767 hy_X6_partedBy rfl dX6_next_30 rfl rfl (Nat.le_of_ble_eq_true rfl) ⟨Nat.le_of_ble_eq_true rfl, Nat.le_of_ble_eq_true rfl⟩ ⟨Nat.le_of_ble_eq_true rfl, Nat.le_of_ble_eq_true rfl⟩ ?_
        refine r_istore X dX6_next_33 (hL 5 (by decide)) (lv' := [(5, iv (r9)), (0, .ref (a0)), (1, iv (x1)), (2, iv (v2_1)), (3, iv (v3_1)), (4, iv (v4_1))]) rfl ?_
        refine r_iload X 0 dX6_next_35 rfl ?_
        refine r_iload_n X 4 dX6_next_37 rfl rfl ?_
        refine r_icmp_le (tgt := 46) X dX6_next_38 (by decide) h (fun c11 h => ?_) (fun c11 h => ?_)
        · refine r_iload X 5 dX6_next_41 rfl ?_
          refine r_goto (tgt := 47) X dX6_next_43 (by decide) ?_
          exact V.sub [1, 2, 4, 5, 0] rfl (J47 (v3_1) (v4_1) (r9) (v4_1) (σ10) h)
        · refine r_iload_n X 3 dX6_next_46 rfl rfl ?_
          exact V.sub [1, 2, 4, 5, 0] rfl (J47 (v3_1) (v4_1) (r9) (v2_1) (σ10) h)
      · have h := ex_some h ihe1
        refine r_iload_n X 2 dX6_next_61 rfl rfl ?_
        cases h
        exact r_iret X hr dX6_next_62
    exact V.sub [3, 4, 2, 1, 0] rfl (L17 ((-1), (-1), 0, σ) h)
theorem hy_X6_part : yX6_part.cls ≠ "java/lang/invoke/MethodHandle" ∧ yX6_part.cls ≠ "java/lang/invoke/VarHandle" ∧ (parseMethodDescriptor yX6_part.desc).map (fun d => d.parameters.length) = some 5 := by decide +kernel
set_option maxHeartbeats 4000000 in
theorem w_X6_part (l : Launch) (D : DD) (sz : Nat) {σ : St} {a0 : Nat} {x1 : Int} {x2 : Int} {x3 : Int} {x4 : Int} {x5 : Int} {w : Int × St} (h : f_X6_part σ a0 x1 x2 x3 x4 x5 = some w) : Mt l yX6_part cX6_part 9 (some FieldType.int) ({ frames := 7, cells := 0, slots := 0, locals := 123 } : Room) D sz σ [.ref a0, iv (x1), iv (x2), iv (x3), iv (x4), iv (x5)] (.returned (some (iv w.1))) (w.2) 0 0 := by
  refine Mt.of (by decide +kernel) (Nat.le_of_ble_eq_true rfl) ?_
  intro Γ X hr hnl hini hnoh
  have X : Cx Γ cX6_part "DayBoyModel" _ := X
  have hL : ∀ i, i < 9 → i < nLc Γ := fun i q => by rw [hnl]; exact q
  show V Γ σ 0 0 0 [(0, .ref (a0)), (1, iv (x1)), (2, iv (x2)), (3, iv (x3)), (4, iv (x4)), (5, iv (x5))] []
  unfold f_X6_part at h
  obtain ⟨ho0, h⟩ := cO_some h
  refine r_aload_n X 0 dX6_part_0 rfl rfl ?_
  refine r_iload_n X 1 dX6_part_1 rfl rfl ?_
  obtain ⟨r2, h1, h⟩ := bd_some h
  refine r_cV (Wd := 0) X (fun l D sz => w_X6_isHead l D sz h1) ho0.1 rfl q1662 qs79 q1660 q109 q1663 hy_X6_isHead rfl dX6_part_2 rfl rfl (Nat.le_of_ble_eq_true rfl) ⟨Nat.le_of_ble_eq_true rfl, Nat.le_of_ble_eq_true rfl⟩ ⟨Nat.le_of_ble_eq_true rfl, Nat.le_of_ble_eq_true rfl⟩ ?_
  refine r_if_eq (tgt := 47) X dX6_part_5 (by decide) h (fun c3 h => ?_) (fun c3 h => ?_)
  · refine r_iconst X dX6_part_47 ?_
    cases h
    exact r_iret X hr dX6_part_48
  · refine r_aload_n X 0 dX6_part_8 rfl rfl ?_
    refine r_iload_n X 2 dX6_part_9 rfl rfl ?_
    obtain ⟨r5, h4, h⟩ := bd_some h
    refine r_cV (Wd := 0) X (fun l D sz => w_X6_isHead l D sz h4) ho0.1 rfl q1662 qs79 q1660 q109 q1663 hy_X6_isHead rfl dX6_part_10 rfl rfl (Nat.le_of_ble_eq_true rfl) ⟨Nat.le_of_ble_eq_true rfl, Nat.le_of_ble_eq_true rfl⟩ ⟨Nat.le_of_ble_eq_true rfl, Nat.le_of_ble_eq_true rfl⟩ ?_
    refine r_if_eq (tgt := 47) X dX6_part_13 (by decide) h (fun c6 h => ?_) (fun c6 h => ?_)
    · refine r_iconst X dX6_part_47 ?_
      cases h
      exact r_iret X hr dX6_part_48
    · refine r_aload_n X 0 dX6_part_16 rfl rfl ?_
      refine r_iload_n X 3 dX6_part_17 rfl rfl ?_
      obtain ⟨r8, h7, h⟩ := bd_some h
      refine r_cV (Wd := 0) X (fun l D sz => w_X6_isCalendar l D sz h7) ho0.1 rfl q1622 qs75 q1620 q109 q1623 hy_X6_isCalendar rfl dX6_part_18 rfl rfl (Nat.le_of_ble_eq_true rfl) ⟨Nat.le_of_ble_eq_true rfl, Nat.le_of_ble_eq_true rfl⟩ ⟨Nat.le_of_ble_eq_true rfl, Nat.le_of_ble_eq_true rfl⟩ ?_
      refine r_if_eq (tgt := 47) X dX6_part_21 (by decide) h (fun c9 h => ?_) (fun c9 h => ?_)
      · refine r_iconst X dX6_part_47 ?_
        cases h
        exact r_iret X hr dX6_part_48
      · refine r_iload X 5 dX6_part_24 rfl ?_
        refine r_iconst X dX6_part_26 ?_
        refine r_bipush X dX6_part_27 (by decide) ?_
        obtain ⟨r11, h10, h⟩ := bd_some h
        refine r_cS (Wd := 0) X (fun l D sz => w_X6_in l D sz h10) q1502 q1501 q109 q1503 hy_X6_in rfl dX6_part_29 rfl rfl (Nat.le_of_ble_eq_true rfl) ⟨Nat.le_of_ble_eq_true rfl, Nat.le_of_ble_eq_true rfl⟩ ⟨Nat.le_of_ble_eq_true rfl, Nat.le_of_ble_eq_true rfl⟩ ?_
        refine r_if_eq (tgt := 47) X dX6_part_32 (by decide) h (fun c12 h => ?_) (fun c12 h => ?_)
        · refine r_iconst X dX6_part_47 ?_
          cases h
          exact r_iret X hr dX6_part_48
        · refine r_iload X 4 dX6_part_35 rfl ?_
          refine r_iconst X dX6_part_37 ?_
          refine r_sipush X dX6_part_38 (by decide) ?_
          obtain ⟨r14, h13, h⟩ := bd_some h
          refine r_cS (Wd := 0) X (fun l D sz => w_X6_in l D sz h13) q1502 q1501 q109 q1503 hy_X6_in rfl dX6_part_41 rfl rfl (Nat.le_of_ble_eq_true rfl) ⟨Nat.le_of_ble_eq_true rfl, Nat.le_of_ble_eq_true rfl⟩ ⟨Nat.le_of_ble_eq_true rfl, Nat.le_of_ble_eq_true rfl⟩ ?_
          refine r_if_ne (tgt := 49) X dX6_part_44 (by decide) h (fun c15 h => ?_) (fun c15 h => ?_)
          · refine r_iconst X dX6_part_47 ?_
            cases h
            exact r_iret X hr dX6_part_48
          · refine r_iload X 4 dX6_part_49 rfl ?_
            refine r_istore X dX6_part_51 (hL 6 (by decide)) (lv' := [(6, iv (x4)), (0, .ref (a0)), (1, iv (x1)), (2, iv (x2)), (3, iv (x3)), (4, iv (x4)), (5, iv (x5))]) rfl ?_
            have L53 : ∀ s : Int × St, lp (fun s => f_X6_part_b53 (a0) (x1) (x2) (x3) (x4) (x5) s.1 s.2) s = some w → V Γ (s.2) 0 0 53 [(0, .ref (a0)), (1, iv (x1)), (2, iv (x2)), (3, iv (x3)), (4, iv (x4)), (5, iv (x5)), (6, iv (s.1))] [] := by
              refine lp_rule (P := fun s : Int × St => V Γ (s.2) 0 0 53 [(0, .ref (a0)), (1, iv (x1)), (2, iv (x2)), (3, iv (x3)), (4, iv (x4)), (5, iv (x5)), (6, iv (s.1))] []) ?_
              intro s z1 h ihb1 ihe1
              obtain ⟨v6_1, σ_1⟩ := s
              have h : f_X6_part_b53 (a0) (x1) (x2) (x3) (x4) (x5) v6_1 σ_1 = some z1 := h
              unfold f_X6_part_b53 at h
              show V Γ σ_1 0 0 53 [(0, .ref (a0)), (1, iv (x1)), (2, iv (x2)), (3, iv (x3)), (4, iv (x4)), (5, iv (x5)), (6, iv (v6_1))] []
              refine r_iload X 6 dX6_part_53 rfl ?_
              refine r_iload X 4 dX6_part_55 rfl ?_
              refine r_iload X 5 dX6_part_57 rfl ?_
              refine r_iadd X dX6_part_59 ?_
              refine r_sipush X dX6_part_60 (by decide) ?_
              obtain ⟨r17, h16, h⟩ := bd_some h
              refine r_cS (Wd := 1) X (fun l D sz => w_J3_min l D sz h16) q585 q1543 q115 q586 hy_J3_min rfl dX6_part_63 rfl rfl (Nat.le_of_ble_eq_true rfl) ⟨Nat.le_of_ble_eq_true rfl, Nat.le_of_ble_eq_true rfl⟩ ⟨Nat.le_of_ble_eq_true rfl, Nat.le_of_ble_eq_true rfl⟩ ?_
              refine r_icmp_ge (tgt := 149) X dX6_part_66 (by decide) h (fun c18 h => ?_) (fun c18 h => ?_)
              · refine r_iconst X dX6_part_69 ?_
                refine r_istore X dX6_part_70 (hL 7 (by decide)) (lv' := [(7, iv (1)), (0, .ref (a0)), (1, iv (x1)), (2, iv (x2)), (3, iv (x3)), (4, iv (x4)), (5, iv (x5)), (6, iv (v6_1))]) rfl ?_
                have L72 : ∀ s : Int × St, lp (fun s => f_X6_part_b72 (a0) (x1) (x2) (x3) (x4) (x5) (v6_1) s.1 s.2) s = some z1 → V Γ (s.2) 0 0 72 [(0, .ref (a0)), (1, iv (x1)), (2, iv (x2)), (3, iv (x3)), (4, iv (x4)), (5, iv (x5)), (6, iv (v6_1)), (7, iv (s.1))] [] := by
                  refine lp_rule (P := fun s : Int × St => V Γ (s.2) 0 0 72 [(0, .ref (a0)), (1, iv (x1)), (2, iv (x2)), (3, iv (x3)), (4, iv (x4)), (5, iv (x5)), (6, iv (v6_1)), (7, iv (s.1))] []) ?_
                  intro s z2 h ihb2 ihe2
                  obtain ⟨v7_2, σ_2⟩ := s
                  have h : f_X6_part_b72 (a0) (x1) (x2) (x3) (x4) (x5) (v6_1) v7_2 σ_2 = some z2 := h
                  unfold f_X6_part_b72 at h
                  show V Γ σ_2 0 0 72 [(0, .ref (a0)), (1, iv (x1)), (2, iv (x2)), (3, iv (x3)), (4, iv (x4)), (5, iv (x5)), (6, iv (v6_1)), (7, iv (v7_2))] []
                  refine r_iload X 7 dX6_part_72 rfl ?_
                  refine r_bipush X dX6_part_74 (by decide) ?_
                  refine r_icmp_gt (tgt := 143) X dX6_part_76 (by decide) h (fun c19 h => ?_) (fun c19 h => ?_)
                  · have h := ex_some h ihe2
                    refine r_iinc X 6 dX6_part_143 rfl (hL 6 (by decide)) (lv' := [(6, iv ((v6_1 + 1))), (0, .ref (a0)), (1, iv (x1)), (2, iv (x2)), (3, iv (x3)), (4, iv (x4)), (5, iv (x5)), (7, iv (v7_2))]) rfl ?_
                    refine r_goto (tgt := 53) X dX6_part_146 (by decide) ?_
                    exact V.sub [1, 2, 3, 4, 5, 6, 0] rfl (ihb1 _ (Option.some.inj h).symm)
                  · refine r_iconst X dX6_part_79 ?_
                    refine r_istore X dX6_part_80 (hL 8 (by decide)) (lv' := [(8, iv (1)), (0, .ref (a0)), (1, iv (x1)), (2, iv (x2)), (3, iv (x3)), (4, iv (x4)), (5, iv (x5)), (6, iv (v6_1)), (7, iv (v7_2))]) rfl ?_
                    have L82 : ∀ s : Int × St, lp (fun s => f_X6_part_b82 (a0) (x1) (x2) (x3) (x4) (x5) (v6_1) (v7_2) s.1 s.2) s = some z2 → V Γ (s.2) 0 0 82 [(0, .ref (a0)), (1, iv (x1)), (2, iv (x2)), (3, iv (x3)), (4, iv (x4)), (5, iv (x5)), (6, iv (v6_1)), (7, iv (v7_2)), (8, iv (s.1))] [] := by
                      refine lp_rule (P := fun s : Int × St => V Γ (s.2) 0 0 82 [(0, .ref (a0)), (1, iv (x1)), (2, iv (x2)), (3, iv (x3)), (4, iv (x4)), (5, iv (x5)), (6, iv (v6_1)), (7, iv (v7_2)), (8, iv (s.1))] []) ?_
                      intro s z3 h ihb3 ihe3
                      obtain ⟨v8_3, σ_3⟩ := s
                      have h : f_X6_part_b82 (a0) (x1) (x2) (x3) (x4) (x5) (v6_1) (v7_2) v8_3 σ_3 = some z3 := h
                      unfold f_X6_part_b82 at h
                      show V Γ σ_3 0 0 82 [(0, .ref (a0)), (1, iv (x1)), (2, iv (x2)), (3, iv (x3)), (4, iv (x4)), (5, iv (x5)), (6, iv (v6_1)), (7, iv (v7_2)), (8, iv (v8_3))] []
                      refine r_iload X 8 dX6_part_82 rfl ?_
                      refine r_bipush X dX6_part_84 (by decide) ?_
                      refine r_icmp_gt (tgt := 137) X dX6_part_86 (by decide) h (fun c20 h => ?_) (fun c20 h => ?_)
                      · have h := ex_some h ihe3
                        refine r_iinc X 7 dX6_part_137 rfl (hL 7 (by decide)) (lv' := [(7, iv ((v7_2 + 1))), (0, .ref (a0)), (1, iv (x1)), (2, iv (x2)), (3, iv (x3)), (4, iv (x4)), (5, iv (x5)), (6, iv (v6_1)), (8, iv (v8_3))]) rfl ?_
                        refine r_goto (tgt := 72) X dX6_part_140 (by decide) ?_
                        exact V.sub [1, 2, 3, 4, 5, 6, 7, 0] rfl (ihb2 _ (Option.some.inj h).symm)
                      · refine r_aload_n X 0 dX6_part_89 rfl rfl ?_
                        refine r_iload_n X 3 dX6_part_90 rfl rfl ?_
                        refine r_iload X 6 dX6_part_91 rfl ?_
                        refine r_iload X 7 dX6_part_93 rfl ?_
                        refine r_iload X 8 dX6_part_95 rfl ?_
                        obtain ⟨ho22, h⟩ := cO_some h
                        obtain ⟨r23, h21, h⟩ := bd_some h
                        refine r_cV (Wd := 0) X (fun l D sz => w_X6_isDate l D sz h21) ho22.1 rfl q1614 qs73 q1612 q109 q1615 hy_X6_isDate rfl dX6_part_97 rfl rfl (Nat.le_of_ble_eq_true rfl) ⟨Nat.le_of_ble_eq_true rfl, Nat.le_of_ble_eq_true rfl⟩ ⟨Nat.le_of_ble_eq_true rfl, Nat.le_of_ble_eq_true rfl⟩ ?_
                        refine r_if_eq (tgt := 131) X dX6_part_100 (by decide) h (fun c24 h => ?_) (fun c24 h => ?_)
                        · refine r_iinc X 8 dX6_part_131 rfl (hL 8 (by decide)) (lv' := [(8, iv ((v8_3 + 1))), (0, .ref (a0)), (1, iv (x1)), (2, iv (x2)), (3, iv (x3)), (4, iv (x4)), (5, iv (x5)), (6, iv (v6_1)), (7, iv (v7_2))]) rfl ?_
                          refine r_goto (tgt := 82) X dX6_part_134 (by decide) ?_
                          exact V.sub [1, 2, 3, 4, 5, 6, 7, 8, 0] rfl (ihb3 _ (Option.some.inj h).symm)
                        · refine r_aload_n X 0 dX6_part_103 rfl rfl ?_
                          refine r_iload_n X 1 dX6_part_104 rfl rfl ?_
                          refine r_iload_n X 2 dX6_part_105 rfl rfl ?_
                          refine r_iload_n X 3 dX6_part_106 rfl rfl ?_
                          refine r_iload X 6 dX6_part_107 rfl ?_
                          refine r_iload X 7 dX6_part_109 rfl ?_
                          refine r_iload X 8 dX6_part_111 rfl ?_
                          obtain ⟨r26, σ27, h25, h⟩ := bd2_some h
                          refine r_cV (Wd := 0) X (fun l D sz => w_X6_areApart l D sz h25) ho22.1 rfl q1770 qs91 q1768 q109 q1771 hy_X6_areApart rfl dX6_part_113 rfl rfl (Nat.le_of_ble_eq_true rfl) ⟨Nat.le_of_ble_eq_true rfl, Nat.le_of_ble_eq_true rfl⟩ ⟨Nat.le_of_ble_eq_true rfl, Nat.le_of_ble_eq_true rfl⟩ ?_
                          refine r_if_eq (tgt := 131) X dX6_part_116 (by decide) h (fun c28 h => ?_) (fun c28 h => ?_)
                          · refine r_iinc X 8 dX6_part_131 rfl (hL 8 (by decide)) (lv' := [(8, iv ((v8_3 + 1))), (0, .ref (a0)), (1, iv (x1)), (2, iv (x2)), (3, iv (x3)), (4, iv (x4)), (5, iv (x5)), (6, iv (v6_1)), (7, iv (v7_2))]) rfl ?_
                            refine r_goto (tgt := 82) X dX6_part_134 (by decide) ?_
                            exact V.sub [1, 2, 3, 4, 5, 6, 7, 8, 0] rfl (ihb3 _ (Option.some.inj h).symm)
                          · have h := ex_some h ihe3
                            have h := ex_some h ihe2
                            have h := ex_some h ihe1
                            refine r_aload_n X 0 dX6_part_119 rfl rfl ?_
                            refine r_iload_n X 3 dX6_part_120 rfl rfl ?_
                            refine r_iload X 6 dX6_part_121 rfl ?_
                            refine r_iload X 7 dX6_part_123 rfl ?_
                            refine r_iload X 8 dX6_part_125 rfl ?_
                            obtain ⟨ho30, h⟩ := cO_some h
                            obtain ⟨r31, h29, h⟩ := bd_some h
                            refine r_cV (Wd := 0) X (fun l D sz => w_X6_dayOf l D sz h29) ho30.1 rfl q1626 qs76 q1624 q109 q1627 hy_X6_dayOf rfl dX6_part_127 rfl rfl (Nat.le_of_ble_eq_true rfl) ⟨Nat.le_of_ble_eq_true rfl, Nat.le_of_ble_eq_true rfl⟩ ⟨Nat.le_of_ble_eq_true rfl, Nat.le_of_ble_eq_true rfl⟩ ?_
                            cases h
                            exact r_iret X hr dX6_part_130
                    exact V.sub [1, 2, 3, 4, 5, 6, 7, 8, 0] rfl (L82 (1, σ_2) h)
                exact V.sub [1, 2, 3, 4, 5, 6, 7, 0] rfl (L72 (1, σ_1) h)
              · have h := ex_some h ihe1
                refine r_iconst X dX6_part_149 ?_
                cases h
                exact r_iret X hr dX6_part_150
            exact V.sub [1, 2, 3, 4, 5, 6, 0] rfl (L53 (x4, σ) h)
theorem hy_X6_nearYears : yX6_nearYears.cls ≠ "java/lang/invoke/MethodHandle" ∧ yX6_nearYears.cls ≠ "java/lang/invoke/VarHandle" ∧ (parseMethodDescriptor yX6_nearYears.desc).map (fun d => d.parameters.length) = some 4 := by decide +kernel
set_option maxHeartbeats 4000000 in
theorem w_X6_nearYears (l : Launch) (D : DD) (sz : Nat) {σ : St} {a0 : Nat} {x1 : Int} {x2 : Int} {x3 : Int} {x4 : Int} {w : St} (h : f_X6_nearYears σ a0 x1 x2 x3 x4 = some w) : Mt l yX6_nearYears cX6_nearYears 9 none ({ frames := 3, cells := 0, slots := 0, locals := 48 } : Room) D sz σ [.ref a0, iv (x1), iv (x2), iv (x3), iv (x4)] (.returned none) (w) 0 0 := by
  refine Mt.of (by decide +kernel) (Nat.le_of_ble_eq_true rfl) ?_
  intro Γ X hr hnl hini hnoh
  have X : Cx Γ cX6_nearYears "DayBoyModel" _ := X
  have hL : ∀ i, i < 9 → i < nLc Γ := fun i q => by rw [hnl]; exact q
  show V Γ σ 0 0 0 [(0, .ref (a0)), (1, iv (x1)), (2, iv (x2)), (3, iv (x3)), (4, iv (x4))] []
  unfold f_X6_nearYears at h
  obtain ⟨ho0, h⟩ := cO_some h
  refine r_iconst X dX6_nearYears_0 ?_
  refine r_istore X dX6_nearYears_1 (hL 5 (by decide)) (lv' := [(5, iv (0)), (0, .ref (a0)), (1, iv (x1)), (2, iv (x2)), (3, iv (x3)), (4, iv (x4))]) rfl ?_
  have L3 : ∀ s : Int × St, lp (fun s => f_X6_nearYears_b3 (a0) (x1) (x2) (x3) (x4) s.1 s.2) s = some w → V Γ (s.2) 0 0 3 [(0, .ref (a0)), (1, iv (x1)), (2, iv (x2)), (3, iv (x3)), (4, iv (x4)), (5, iv (s.1))] [] := by
    refine lp_rule (P := fun s : Int × St => V Γ (s.2) 0 0 3 [(0, .ref (a0)), (1, iv (x1)), (2, iv (x2)), (3, iv (x3)), (4, iv (x4)), (5, iv (s.1))] []) ?_
    intro s z1 h ihb1 ihe1
    obtain ⟨v5_1, σ_1⟩ := s
    have h : f_X6_nearYears_b3 (a0) (x1) (x2) (x3) (x4) v5_1 σ_1 = some z1 := h
    unfold f_X6_nearYears_b3 at h
    show V Γ σ_1 0 0 3 [(0, .ref (a0)), (1, iv (x1)), (2, iv (x2)), (3, iv (x3)), (4, iv (x4)), (5, iv (v5_1))] []
    refine r_iload X 5 dX6_nearYears_3 rfl ?_
    refine r_iload_n X 3 dX6_nearYears_5 rfl rfl ?_
    refine r_icmp_ge (tgt := 171) X dX6_nearYears_6 (by decide) h (fun c1 h => ?_) (fun c1 h => ?_)
    · refine r_aload_n X 0 dX6_nearYears_9 rfl rfl ?_
      refine r_iconst X dX6_nearYears_10 ?_
      obtain ⟨ho2, h⟩ := cO_some h
      refine r_putI (kf := 34) X ho2.1 rfl (by decide) rfl rfl (Or.inl q1275) dX6_nearYears_11 rfl ?_
      refine r_let h (fun σ3 eσ3 h => ?_)
      refine r_aload_n X 0 dX6_nearYears_14 rfl rfl ?_
      refine r_iconst X dX6_nearYears_15 ?_
      have hk4 : oc σ3 (a0) 5 := by rw [eσ3]; exact ho2
      refine r_putI (kf := 35) X hk4.1 rfl (by decide) rfl rfl (Or.inl q1276) dX6_nearYears_16 rfl ?_
      refine r_let h (fun σ5 eσ5 h => ?_)
      refine r_iconst X dX6_nearYears_19 ?_
      refine r_istore X dX6_nearYears_20 (hL 6 (by decide)) (lv' := [(6, iv (0)), (0, .ref (a0)), (1, iv (x1)), (2, iv (x2)), (3, iv (x3)), (4, iv (x4)), (5, iv (v5_1))]) rfl ?_
      have L22 : ∀ s : Int × St, lp (fun s => f_X6_nearYears_b22 (a0) (x1) (x2) (x3) (x4) (v5_1) s.1 s.2) s = some z1 → V Γ (s.2) 0 0 22 [(0, .ref (a0)), (1, iv (x1)), (2, iv (x2)), (3, iv (x3)), (4, iv (x4)), (5, iv (v5_1)), (6, iv (s.1))] [] := by
        refine lp_rule (P := fun s : Int × St => V Γ (s.2) 0 0 22 [(0, .ref (a0)), (1, iv (x1)), (2, iv (x2)), (3, iv (x3)), (4, iv (x4)), (5, iv (v5_1)), (6, iv (s.1))] []) ?_
        intro s z2 h ihb2 ihe2
        obtain ⟨v6_2, σ_2⟩ := s
        have h : f_X6_nearYears_b22 (a0) (x1) (x2) (x3) (x4) (v5_1) v6_2 σ_2 = some z2 := h
        unfold f_X6_nearYears_b22 at h
        show V Γ σ_2 0 0 22 [(0, .ref (a0)), (1, iv (x1)), (2, iv (x2)), (3, iv (x3)), (4, iv (x4)), (5, iv (v5_1)), (6, iv (v6_2))] []
        refine r_iload X 6 dX6_nearYears_22 rfl ?_
        refine r_sipush X dX6_nearYears_24 (by decide) ?_
        refine r_icmp_ge (tgt := 58) X dX6_nearYears_27 (by decide) h (fun c6 h => ?_) (fun c6 h => ?_)
        · refine r_aload_n X 0 dX6_nearYears_30 rfl rfl ?_
          obtain ⟨ho7, h⟩ := cO_some h
          refine r_getA (kf := 30) X ho7.1 rfl (by decide) (by decide) (Or.inl q1271) dX6_nearYears_31 ?_
          refine r_ldcw (z := 80008) X q1788 dX6_nearYears_34 rfl ?_
          refine r_iload X 6 dX6_nearYears_37 rfl ?_
          refine r_iadd X dX6_nearYears_39 ?_
          refine r_ldc2 (z := 1152921504606846976) X q1589 dX6_nearYears_40 rfl ?_
          refine r_last X ho7.1 (ho7.2 30 (by decide)) rfl rfl rfl (by decide) dX6_nearYears_43 h (fun h => ?_)
          refine r_let h (fun σ8 eσ8 h => ?_)
          refine r_aload_n X 0 dX6_nearYears_44 rfl rfl ?_
          have hk9 : oc σ8 (a0) 5 := by rw [eσ8]; exact ho7
          refine r_getA (kf := 33) X hk9.1 rfl (by decide) (by decide) (Or.inl q1274) dX6_nearYears_45 ?_
          refine r_iload X 6 dX6_nearYears_48 rfl ?_
          refine r_iconst X dX6_nearYears_50 ?_
          refine r_zast X hk9.1 (hk9.2 33 (by decide)) rfl rfl rfl (by decide) dX6_nearYears_51 h (fun h => ?_)
          refine r_let h (fun σ10 eσ10 h => ?_)
          refine r_iinc X 6 dX6_nearYears_52 rfl (hL 6 (by decide)) (lv' := [(6, iv ((v6_2 + 1))), (0, .ref (a0)), (1, iv (x1)), (2, iv (x2)), (3, iv (x3)), (4, iv (x4)), (5, iv (v5_1))]) rfl ?_
          refine r_goto (tgt := 22) X dX6_nearYears_55 (by decide) ?_
          exact V.sub [1, 2, 3, 4, 5, 6, 0] rfl (ihb2 _ (Option.some.inj h).symm)
        · have h := ex_some h ihe2
          refine r_aload_n X 0 dX6_nearYears_58 rfl rfl ?_
          obtain ⟨ho11, h⟩ := cO_some h
          refine r_getA (kf := 30) X ho11.1 rfl (by decide) (by decide) (Or.inl q1271) dX6_nearYears_59 ?_
          refine r_ldcw (z := 80008) X q1788 dX6_nearYears_62 rfl ?_
          refine r_iload_n X 2 dX6_nearYears_65 rfl rfl ?_
          refine r_iadd X dX6_nearYears_66 ?_
          refine r_iload X 5 dX6_nearYears_67 rfl ?_
          refine r_iadd X dX6_nearYears_69 ?_
          refine r_lconst (y := 0) X dX6_nearYears_70 rfl ?_
          refine r_last X ho11.1 (ho11.2 30 (by decide)) rfl rfl rfl (by decide) dX6_nearYears_71 h (fun h => ?_)
          refine r_let h (fun σ12 eσ12 h => ?_)
          refine r_aload_n X 0 dX6_nearYears_72 rfl rfl ?_
          refine r_iload_n X 2 dX6_nearYears_73 rfl rfl ?_
          refine r_iload X 5 dX6_nearYears_74 rfl ?_
          refine r_iadd X dX6_nearYears_76 ?_
          have hk14 : oc σ12 (a0) 5 := by rw [eσ12]; exact ho11
          obtain ⟨σ15, h13, h⟩ := bd_some h
          refine r_cV (Wd := 0) X (fun l D sz => w_X6_push l D sz h13) hk14.1 rfl q1596 qs70 q1594 q109 q1597 hy_X6_push rfl dX6_nearYears_77 rfl rfl (Nat.le_of_ble_eq_true rfl) ⟨Nat.le_of_ble_eq_true rfl, Nat.le_of_ble_eq_true rfl⟩ ⟨Nat.le_of_ble_eq_true rfl, Nat.le_of_ble_eq_true rfl⟩ ?_
          refine r_aload_n X 0 dX6_nearYears_80 rfl rfl ?_
          refine r_iload_n X 1 dX6_nearYears_81 rfl rfl ?_
          refine r_bipush X dX6_nearYears_82 (by decide) ?_
          obtain ⟨ho17, h⟩ := cO_some h
          obtain ⟨σ18, h16, h⟩ := bd_some h
          refine r_cV (Wd := 0) X (fun l D sz => w_X6_flood l D sz h16) ho17.1 rfl q1600 qs71 q1598 q109 q1601 hy_X6_flood rfl dX6_nearYears_84 rfl rfl (Nat.le_of_ble_eq_true rfl) ⟨Nat.le_of_ble_eq_true rfl, Nat.le_of_ble_eq_true rfl⟩ ⟨Nat.le_of_ble_eq_true rfl, Nat.le_of_ble_eq_true rfl⟩ ?_
          refine r_aload_n X 0 dX6_nearYears_87 rfl rfl ?_
          obtain ⟨ho19, h⟩ := cO_some h
          refine r_getA (kf := 55) X ho19.1 rfl (by decide) (by decide) (Or.inl q1296) dX6_nearYears_88 ?_
          refine r_iload X 5 dX6_nearYears_91 rfl ?_
          refine r_iconst X dX6_nearYears_93 ?_
          refine r_iast X ho19.1 (ho19.2 55 (by decide)) rfl rfl rfl (by decide) dX6_nearYears_94 h (fun h => ?_)
          refine r_let h (fun σ20 eσ20 h => ?_)
          refine r_iconst X dX6_nearYears_95 ?_
          refine r_istore X dX6_nearYears_96 (hL 6 (by decide)) (lv' := [(6, iv (0)), (0, .ref (a0)), (1, iv (x1)), (2, iv (x2)), (3, iv (x3)), (4, iv (x4)), (5, iv (v5_1))]) rfl ?_
          have L98 : ∀ s : Int × St, lp (fun s => f_X6_nearYears_b98 (a0) (x1) (x2) (x3) (x4) (v5_1) s.1 s.2) s = some z1 → V Γ (s.2) 0 0 98 [(0, .ref (a0)), (1, iv (x1)), (2, iv (x2)), (3, iv (x3)), (4, iv (x4)), (5, iv (v5_1)), (6, iv (s.1))] [] := by
            refine lp_rule (P := fun s : Int × St => V Γ (s.2) 0 0 98 [(0, .ref (a0)), (1, iv (x1)), (2, iv (x2)), (3, iv (x3)), (4, iv (x4)), (5, iv (v5_1)), (6, iv (s.1))] []) ?_
            intro s z2 h ihb2 ihe2
            obtain ⟨v6_2, σ_2⟩ := s
            have h : f_X6_nearYears_b98 (a0) (x1) (x2) (x3) (x4) (v5_1) v6_2 σ_2 = some z2 := h
            unfold f_X6_nearYears_b98 at h
            show V Γ σ_2 0 0 98 [(0, .ref (a0)), (1, iv (x1)), (2, iv (x2)), (3, iv (x3)), (4, iv (x4)), (5, iv (v5_1)), (6, iv (v6_2))] []
            have J157 : ∀ (v6_j157 : Int) (t0_j157 : Int) (t1_j157 : Int) (t2_j157 : Int) (σ_j157 : St), f_X6_nearYears_j157 (a0) (x1) (x2) (x3) (x4) (v5_1) v6_j157 t0_j157 t1_j157 t2_j157 σ_j157 = some z2 → V Γ σ_j157 0 0 157 [(0, .ref (a0)), (1, iv (x1)), (2, iv (x2)), (3, iv (x3)), (4, iv (x4)), (5, iv (v5_1)), (6, iv (v6_j157))] [iv (t0_j157), iv (t1_j157), iv (t2_j157), va_rf (aR (σ_j157) (a0) 55)] := by
              intro v6_j157 t0_j157 t1_j157 t2_j157 σ_j157 h
              unfold f_X6_nearYears_j157 at h
              refine r_ior X dX6_nearYears_157 ?_
              obtain ⟨ho21, h⟩ := cO_some h
              refine r_iast X ho21.1 (ho21.2 55 (by decide)) rfl rfl rfl (by decide) dX6_nearYears_158 h (fun h => ?_)
              refine r_let h (fun σ22 eσ22 h => ?_)
              refine r_iinc X 6 dX6_nearYears_159 rfl (hL 6 (by decide)) (lv' := [(6, iv ((v6_j157 + 1))), (0, .ref (a0)), (1, iv (x1)), (2, iv (x2)), (3, iv (x3)), (4, iv (x4)), (5, iv (v5_1))]) rfl ?_
              refine r_goto (tgt := 98) X dX6_nearYears_162 (by decide) ?_
              exact V.sub [1, 2, 3, 4, 5, 6, 0] rfl (ihb2 _ (Option.some.inj h).symm)
            have J156 : ∀ (v6_j156 : Int) (t0_j156 : Int) (t1_j156 : Int) (σ_j156 : St), f_X6_nearYears_j156 (a0) (x1) (x2) (x3) (x4) (v5_1) v6_j156 t0_j156 t1_j156 σ_j156 = some z2 → V Γ σ_j156 0 0 156 [(0, .ref (a0)), (1, iv (x1)), (2, iv (x2)), (3, iv (x3)), (4, iv (x4)), (5, iv (v5_1)), (6, iv (v6_j156))] [iv (t0_j156), iv (t1_j156), va_rf (aR (σ_j156) (a0) 55)] := by
              intro v6_j156 t0_j156 t1_j156 σ_j156 h
              unfold f_X6_nearYears_j156 at h
              refine r_iconst X dX6_nearYears_156 ?_
              exact V.sub [0, 1, 2, 3, 4, 5, 6] rfl (J157 (v6_j156) (0) (t0_j156) (t1_j156) (σ_j156) h)
            refine r_iload X 6 dX6_nearYears_98 rfl ?_
            refine r_iload_n X 3 dX6_nearYears_100 rfl rfl ?_
            refine r_icmp_ge (tgt := 165) X dX6_nearYears_101 (by decide) h (fun c23 h => ?_) (fun c23 h => ?_)
            · refine r_aload_n X 0 dX6_nearYears_104 rfl rfl ?_
              obtain ⟨ho24, h⟩ := cO_some h
              refine r_getA (kf := 30) X ho24.1 rfl (by decide) (by decide) (Or.inl q1271) dX6_nearYears_105 ?_
              refine r_ldcw (z := 80008) X q1788 dX6_nearYears_108 rfl ?_
              refine r_iload_n X 2 dX6_nearYears_111 rfl rfl ?_
              refine r_iadd X dX6_nearYears_112 ?_
              refine r_iload X 6 dX6_nearYears_113 rfl ?_
              refine r_iadd X dX6_nearYears_115 ?_
              refine r_lald X ho24.1 (ho24.2 30 (by decide)) rfl rfl rfl (by decide) dX6_nearYears_116 h (fun h => ?_)
              refine r_lstore X dX6_nearYears_117 (hL 8 (by decide)) (lv' := [(7, jv ((gJ (σ_2) (a0) 30 (((80008 + x2) + v6_2))))), (0, .ref (a0)), (1, iv (x1)), (2, iv (x2)), (3, iv (x3)), (4, iv (x4)), (5, iv (v5_1)), (6, iv (v6_2))]) rfl ?_
              refine r_aload_n X 1 dX6_nearYears_119 rfl rfl ?_
              refine r_getA (kf := 55) X ho24.1 rfl (by decide) (by decide) (Or.inl q1296) dX6_nearYears_120 ?_
              refine r_iload X 6 dX6_nearYears_123 rfl ?_
              refine r_dup2 X dX6_nearYears_125 rfl (cat_rf _) ?_
              refine r_iald X ho24.1 (ho24.2 55 (by decide)) rfl rfl rfl (by decide) dX6_nearYears_126 h (fun h => ?_)
              refine r_lload X 0 dX6_nearYears_127 rfl ?_
              refine r_ldc2 (z := 1152921504606846976) X q1589 dX6_nearYears_129 rfl ?_
              refine r_lcmp_ge (tgt := 156) X dX6_nearYears_132 dX6_nearYears_133 (by decide) h (fun c25 h => ?_) (fun c25 h => ?_)
              · refine r_lload X 0 dX6_nearYears_136 rfl ?_
                refine r_ldc2 (z := 100000) X q1606 dX6_nearYears_138 rfl ?_
                obtain ⟨c26, h⟩ := ck_some h
                refine r_ldiv X dX6_nearYears_141 c26 (by decide) (by decide) ?_
                refine r_iload X 5 dX6_nearYears_142 rfl ?_
                obtain ⟨c27, h⟩ := ck_some h
                refine r_i2l X dX6_nearYears_144 c27 ?_
                refine r_lcmp_gt (tgt := 156) X dX6_nearYears_145 dX6_nearYears_146 (by decide) h (fun c28 h => ?_) (fun c28 h => ?_)
                · exact V.sub [1, 2, 3, 4, 5, 6, 7] rfl (J156 (v6_2) ((gI (σ_2) (a0) 55 (v5_1))) (v5_1) (σ_2) h)
                · refine r_iconst X dX6_nearYears_149 ?_
                  refine r_iload X 7 dX6_nearYears_150 rfl ?_
                  refine r_ishl X dX6_nearYears_152 ?_
                  refine r_goto (tgt := 157) X dX6_nearYears_153 (by decide) ?_
                  exact V.sub [1, 2, 3, 4, 5, 6, 7] rfl (J157 (v6_2) ((bShl (1) (v6_2))) ((gI (σ_2) (a0) 55 (v5_1))) (v5_1) (σ_2) h)
              · exact V.sub [1, 2, 3, 4, 5, 6, 7] rfl (J156 (v6_2) ((gI (σ_2) (a0) 55 (v5_1))) (v5_1) (σ_2) h)
            · have h := ex_some h ihe2
              refine r_iinc X 5 dX6_nearYears_165 rfl (hL 5 (by decide)) (lv' := [(5, iv ((v5_1 + 1))), (0, .ref (a0)), (1, iv (x1)), (2, iv (x2)), (3, iv (x3)), (4, iv (x4)), (6, iv (v6_2))]) rfl ?_
              refine r_goto (tgt := 3) X dX6_nearYears_168 (by decide) ?_
              exact V.sub [1, 2, 3, 4, 5, 0] rfl (ihb1 _ (Option.some.inj h).symm)
          exact V.sub [1, 2, 3, 4, 5, 6, 0] rfl (L98 (0, σ20) h)
      exact V.sub [1, 2, 3, 4, 5, 6, 0] rfl (L22 (0, σ5) h)
    · have h := ex_some h ihe1
      cases h
      exact r_vret X hr dX6_nearYears_171
  exact V.sub [1, 2, 3, 4, 5, 0] rfl (L3 (0, σ) h)
theorem hy_X6_doAll : yX6_doAll.cls ≠ "java/lang/invoke/MethodHandle" ∧ yX6_doAll.cls ≠ "java/lang/invoke/VarHandle" ∧ (parseMethodDescriptor yX6_doAll.desc).map (fun d => d.parameters.length) = some 2 := by decide +kernel
set_option maxHeartbeats 4000000 in
theorem w_X6_doAll (l : Launch) (D : DD) (sz : Nat) {σ : St} {a0 : Nat} {x1 : Int} {x2 : Int} {w : Int} (h : f_X6_doAll σ a0 x1 x2 = some w) : Mt l yX6_doAll cX6_doAll 4 (some FieldType.boolean) ({ frames := 0, cells := 0, slots := 0, locals := 0 } : Room) D sz σ [.ref a0, iv (x1), iv (x2)] (.returned (some (iv w))) (σ) 0 0 := by
  refine Mt.of (by decide +kernel) (Nat.le_of_ble_eq_true rfl) ?_
  intro Γ X hr hnl hini hnoh
  have X : Cx Γ cX6_doAll "DayBoyModel" _ := X
  have hL : ∀ i, i < 4 → i < nLc Γ := fun i q => by rw [hnl]; exact q
  show V Γ σ 0 0 0 [(0, .ref (a0)), (1, iv (x1)), (2, iv (x2))] []
  unfold f_X6_doAll at h
  obtain ⟨ho0, h⟩ := cO_some h
  refine r_iconst X dX6_doAll_0 ?_
  refine r_istore_n X dX6_doAll_1 rfl (hL 3 (by decide)) (lv' := [(3, iv (0)), (0, .ref (a0)), (1, iv (x1)), (2, iv (x2))]) rfl ?_
  have L2 : ∀ s : Int, lp (fun s => f_X6_doAll_b2 (σ) (a0) (x1) (x2) s) s = some w → V Γ (σ) 0 0 2 [(0, .ref (a0)), (1, iv (x1)), (2, iv (x2)), (3, iv (s))] [] := by
    refine lp_rule (P := fun s : Int => V Γ (σ) 0 0 2 [(0, .ref (a0)), (1, iv (x1)), (2, iv (x2)), (3, iv (s))] []) ?_
    intro s z1 h ihb1 ihe1
    obtain ⟨v3_1, es⟩ : ∃ q, q = s := ⟨s, rfl⟩
    subst es
    have h : f_X6_doAll_b2 (σ) (a0) (x1) (x2) v3_1 = some z1 := h
    unfold f_X6_doAll_b2 at h
    show V Γ σ 0 0 2 [(0, .ref (a0)), (1, iv (x1)), (2, iv (x2)), (3, iv (v3_1))] []
    refine r_iload_n X 3 dX6_doAll_2 rfl rfl ?_
    refine r_iload_n X 2 dX6_doAll_3 rfl rfl ?_
    refine r_icmp_ge (tgt := 26) X dX6_doAll_4 (by decide) h (fun c1 h => ?_) (fun c1 h => ?_)
    · refine r_aload_n X 0 dX6_doAll_7 rfl rfl ?_
      refine r_getA (kf := 55) X ho0.1 rfl (by decide) (by decide) (Or.inl q1296) dX6_doAll_8 ?_
      refine r_iload_n X 3 dX6_doAll_11 rfl rfl ?_
      refine r_iald X ho0.1 (ho0.2 55 (by decide)) rfl rfl rfl (by decide) dX6_doAll_12 h (fun h => ?_)
      refine r_iload_n X 1 dX6_doAll_13 rfl rfl ?_
      refine r_iand X dX6_doAll_14 ?_
      refine r_if_ne (tgt := 20) X dX6_doAll_15 (by decide) h (fun c2 h => ?_) (fun c2 h => ?_)
      · have h := ex_some h ihe1
        refine r_iconst X dX6_doAll_18 ?_
        cases h
        exact r_zret X hr (by decide) dX6_doAll_19
      · refine r_iinc X 3 dX6_doAll_20 rfl (hL 3 (by decide)) (lv' := [(3, iv ((v3_1 + 1))), (0, .ref (a0)), (1, iv (x1)), (2, iv (x2))]) rfl ?_
        refine r_goto (tgt := 2) X dX6_doAll_23 (by decide) ?_
        exact V.sub [1, 2, 3, 0] rfl (ihb1 _ (Option.some.inj h).symm)
    · have h := ex_some h ihe1
      refine r_iconst X dX6_doAll_26 ?_
      cases h
      exact r_zret X hr (by decide) dX6_doAll_27
  exact V.sub [1, 2, 3, 0] rfl (L2 (0) h)
theorem hy_X6_least : yX6_least.cls ≠ "java/lang/invoke/MethodHandle" ∧ yX6_least.cls ≠ "java/lang/invoke/VarHandle" ∧ (parseMethodDescriptor yX6_least.desc).map (fun d => d.parameters.length) = some 5 := by decide +kernel
set_option maxHeartbeats 4000000 in
theorem w_X6_least (l : Launch) (D : DD) (sz : Nat) {σ : St} {a0 : Nat} {x1 : Int} {x2 : Int} {x3 : Int} {x4 : Int} {x5 : Int} {w : Int × St} (h : f_X6_least σ a0 x1 x2 x3 x4 x5 = some w) : Mt l yX6_least cX6_least 10 (some FieldType.int) ({ frames := 4, cells := 0, slots := 0, locals := 68 } : Room) D sz σ [.ref a0, iv (x1), iv (x2), iv (x3), iv (x4), iv (x5)] (.returned (some (iv w.1))) (w.2) 0 0 := by
  refine Mt.of (by decide +kernel) (Nat.le_of_ble_eq_true rfl) ?_
  intro Γ X hr hnl hini hnoh
  have X : Cx Γ cX6_least "DayBoyModel" _ := X
  have hL : ∀ i, i < 10 → i < nLc Γ := fun i q => by rw [hnl]; exact q
  show V Γ σ 0 0 0 [(0, .ref (a0)), (1, iv (x1)), (2, iv (x2)), (3, iv (x3)), (4, iv (x4)), (5, iv (x5))] []
  unfold f_X6_least at h
  obtain ⟨ho0, h⟩ := cO_some h
  refine r_aload_n X 0 dX6_least_0 rfl rfl ?_
  refine r_iload_n X 1 dX6_least_1 rfl rfl ?_
  obtain ⟨r2, h1, h⟩ := bd_some h
  refine r_cV (Wd := 0) X (fun l D sz => w_X6_isHead l D sz h1) ho0.1 rfl q1662 qs79 q1660 q109 q1663 hy_X6_isHead rfl dX6_least_2 rfl rfl (Nat.le_of_ble_eq_true rfl) ⟨Nat.le_of_ble_eq_true rfl, Nat.le_of_ble_eq_true rfl⟩ ⟨Nat.le_of_ble_eq_true rfl, Nat.le_of_ble_eq_true rfl⟩ ?_
  refine r_if_eq (tgt := 62) X dX6_least_5 (by decide) h (fun c3 h => ?_) (fun c3 h => ?_)
  · refine r_iconst X dX6_least_62 ?_
    cases h
    exact r_iret X hr dX6_least_63
  · refine r_iload_n X 2 dX6_least_8 rfl rfl ?_
    refine r_iconst X dX6_least_9 ?_
    refine r_sipush X dX6_least_10 (by decide) ?_
    obtain ⟨r5, h4, h⟩ := bd_some h
    refine r_cS (Wd := 0) X (fun l D sz => w_X6_in l D sz h4) q1502 q1501 q109 q1503 hy_X6_in rfl dX6_least_13 rfl rfl (Nat.le_of_ble_eq_true rfl) ⟨Nat.le_of_ble_eq_true rfl, Nat.le_of_ble_eq_true rfl⟩ ⟨Nat.le_of_ble_eq_true rfl, Nat.le_of_ble_eq_true rfl⟩ ?_
    refine r_if_eq (tgt := 62) X dX6_least_16 (by decide) h (fun c6 h => ?_) (fun c6 h => ?_)
    · refine r_iconst X dX6_least_62 ?_
      cases h
      exact r_iret X hr dX6_least_63
    · refine r_iload_n X 3 dX6_least_19 rfl rfl ?_
      refine r_iconst X dX6_least_20 ?_
      refine r_bipush X dX6_least_21 (by decide) ?_
      obtain ⟨r8, h7, h⟩ := bd_some h
      refine r_cS (Wd := 0) X (fun l D sz => w_X6_in l D sz h7) q1502 q1501 q109 q1503 hy_X6_in rfl dX6_least_23 rfl rfl (Nat.le_of_ble_eq_true rfl) ⟨Nat.le_of_ble_eq_true rfl, Nat.le_of_ble_eq_true rfl⟩ ⟨Nat.le_of_ble_eq_true rfl, Nat.le_of_ble_eq_true rfl⟩ ?_
      refine r_if_eq (tgt := 62) X dX6_least_26 (by decide) h (fun c9 h => ?_) (fun c9 h => ?_)
      · refine r_iconst X dX6_least_62 ?_
        cases h
        exact r_iret X hr dX6_least_63
      · refine r_iload_n X 2 dX6_least_29 rfl rfl ?_
        refine r_iload_n X 3 dX6_least_30 rfl rfl ?_
        refine r_iadd X dX6_least_31 ?_
        refine r_iconst X dX6_least_32 ?_
        refine r_isub X dX6_least_33 ?_
        refine r_sipush X dX6_least_34 (by decide) ?_
        refine r_icmp_gt (tgt := 62) X dX6_least_37 (by decide) h (fun c10 h => ?_) (fun c10 h => ?_)
        · refine r_iconst X dX6_least_62 ?_
          cases h
          exact r_iret X hr dX6_least_63
        · refine r_iload X 4 dX6_least_40 rfl ?_
          refine r_iconst X dX6_least_42 ?_
          refine r_sipush X dX6_least_43 (by decide) ?_
          obtain ⟨r12, h11, h⟩ := bd_some h
          refine r_cS (Wd := 0) X (fun l D sz => w_X6_in l D sz h11) q1502 q1501 q109 q1503 hy_X6_in rfl dX6_least_46 rfl rfl (Nat.le_of_ble_eq_true rfl) ⟨Nat.le_of_ble_eq_true rfl, Nat.le_of_ble_eq_true rfl⟩ ⟨Nat.le_of_ble_eq_true rfl, Nat.le_of_ble_eq_true rfl⟩ ?_
          refine r_if_eq (tgt := 62) X dX6_least_49 (by decide) h (fun c13 h => ?_) (fun c13 h => ?_)
          · refine r_iconst X dX6_least_62 ?_
            cases h
            exact r_iret X hr dX6_least_63
          · refine r_iload X 5 dX6_least_52 rfl ?_
            refine r_iconst X dX6_least_54 ?_
            refine r_iconst X dX6_least_55 ?_
            obtain ⟨r15, h14, h⟩ := bd_some h
            refine r_cS (Wd := 0) X (fun l D sz => w_X6_in l D sz h14) q1502 q1501 q109 q1503 hy_X6_in rfl dX6_least_56 rfl rfl (Nat.le_of_ble_eq_true rfl) ⟨Nat.le_of_ble_eq_true rfl, Nat.le_of_ble_eq_true rfl⟩ ⟨Nat.le_of_ble_eq_true rfl, Nat.le_of_ble_eq_true rfl⟩ ?_
            refine r_if_ne (tgt := 64) X dX6_least_59 (by decide) h (fun c16 h => ?_) (fun c16 h => ?_)
            · refine r_iconst X dX6_least_62 ?_
              cases h
              exact r_iret X hr dX6_least_63
            · refine r_aload_n X 0 dX6_least_64 rfl rfl ?_
              refine r_iload_n X 1 dX6_least_65 rfl rfl ?_
              refine r_iload_n X 2 dX6_least_66 rfl rfl ?_
              refine r_iload_n X 3 dX6_least_67 rfl rfl ?_
              refine r_iload X 4 dX6_least_68 rfl ?_
              obtain ⟨σ18, h17, h⟩ := bd_some h
              refine r_cV (Wd := 0) X (fun l D sz => w_X6_nearYears l D sz h17) ho0.1 rfl q1786 qs92 q1784 q109 q1787 hy_X6_nearYears rfl dX6_least_70 rfl rfl (Nat.le_of_ble_eq_true rfl) ⟨Nat.le_of_ble_eq_true rfl, Nat.le_of_ble_eq_true rfl⟩ ⟨Nat.le_of_ble_eq_true rfl, Nat.le_of_ble_eq_true rfl⟩ ?_
              refine r_iconst X dX6_least_73 ?_
              refine r_iload_n X 3 dX6_least_74 rfl rfl ?_
              refine r_ishl X dX6_least_75 ?_
              refine r_iconst X dX6_least_76 ?_
              refine r_isub X dX6_least_77 ?_
              refine r_istore X dX6_least_78 (hL 6 (by decide)) (lv' := [(6, iv (((bShl (1) (x3)) - 1))), (0, .ref (a0)), (1, iv (x1)), (2, iv (x2)), (3, iv (x3)), (4, iv (x4)), (5, iv (x5))]) rfl ?_
              refine r_iconst X dX6_least_80 ?_
              refine r_istore X dX6_least_81 (hL 7 (by decide)) (lv' := [(7, iv (1)), (6, iv (((bShl (1) (x3)) - 1))), (0, .ref (a0)), (1, iv (x1)), (2, iv (x2)), (3, iv (x3)), (4, iv (x4)), (5, iv (x5))]) rfl ?_
              have L83 : ∀ s : Int × Int, lp (fun s => f_X6_least_b83 (σ18) (a0) (x3) (x5) s.1 s.2) s = some w → V Γ (σ18) 0 0 83 [(0, .ref (a0)), (3, iv (x3)), (5, iv (x5)), (6, iv (s.1)), (7, iv (s.2))] [] := by
                refine lp_rule (P := fun s : Int × Int => V Γ (σ18) 0 0 83 [(0, .ref (a0)), (3, iv (x3)), (5, iv (x5)), (6, iv (s.1)), (7, iv (s.2))] []) ?_
                intro s z1 h ihb1 ihe1
                obtain ⟨v6_1, v7_1⟩ := s
                have h : f_X6_least_b83 (σ18) (a0) (x3) (x5) v6_1 v7_1 = some z1 := h
                unfold f_X6_least_b83 at h
                show V Γ σ18 0 0 83 [(0, .ref (a0)), (3, iv (x3)), (5, iv (x5)), (6, iv (v6_1)), (7, iv (v7_1))] []
                have J133 : ∀ (v6_j133 : Int) (v7_j133 : Int), f_X6_least_j133 (σ18) (a0) (x3) (x5) v6_j133 v7_j133 = some z1 → V Γ σ18 0 0 133 [(0, .ref (a0)), (3, iv (x3)), (5, iv (x5)), (6, iv (v6_j133)), (7, iv (v7_j133))] [] := by
                  intro v6_j133 v7_j133 h
                  unfold f_X6_least_j133 at h
                  refine r_aload_n X 0 dX6_least_133 rfl rfl ?_
                  refine r_iload X 4 dX6_least_134 rfl ?_
                  refine r_iload_n X 1 dX6_least_136 rfl rfl ?_
                  obtain ⟨ho20, h⟩ := cO_some h
                  obtain ⟨r21, h19, h⟩ := bd_some h
                  refine r_cV (Wd := 0) X (fun l D sz => w_X6_doAll l D sz h19) ho20.1 rfl q1792 qs93 q1790 q109 q1793 hy_X6_doAll rfl dX6_least_137 rfl rfl (Nat.le_of_ble_eq_true rfl) ⟨Nat.le_of_ble_eq_true rfl, Nat.le_of_ble_eq_true rfl⟩ ⟨Nat.le_of_ble_eq_true rfl, Nat.le_of_ble_eq_true rfl⟩ ?_
                  refine r_if_eq (tgt := 147) X dX6_least_140 (by decide) h (fun c22 h => ?_) (fun c22 h => ?_)
                  · refine r_iinc X 4 dX6_least_147 rfl (hL 7 (by decide)) (lv' := [(7, iv ((v7_j133 + 1))), (0, .ref (a0)), (3, iv (x3)), (5, iv (x5)), (6, iv (v6_j133))]) rfl ?_
                    refine r_goto (tgt := 83) X dX6_least_150 (by decide) ?_
                    exact V.sub [1, 2, 3, 4, 0] rfl (ihb1 _ (Option.some.inj h).symm)
                  · refine r_iload X 4 dX6_least_143 rfl ?_
                    refine r_istore X dX6_least_145 (hL 6 (by decide)) (lv' := [(6, iv (v7_j133)), (0, .ref (a0)), (3, iv (x3)), (5, iv (x5)), (7, iv (v7_j133))]) rfl ?_
                    refine r_iinc X 4 dX6_least_147 rfl (hL 7 (by decide)) (lv' := [(7, iv ((v7_j133 + 1))), (6, iv (v7_j133)), (0, .ref (a0)), (3, iv (x3)), (5, iv (x5))]) rfl ?_
                    refine r_goto (tgt := 83) X dX6_least_150 (by decide) ?_
                    exact V.sub [2, 3, 4, 1, 0] rfl (ihb1 _ (Option.some.inj h).symm)
                refine r_iload X 4 dX6_least_83 rfl ?_
                refine r_iconst X dX6_least_85 ?_
                refine r_iload_n X 1 dX6_least_86 rfl rfl ?_
                refine r_ishl X dX6_least_87 ?_
                refine r_icmp_ge (tgt := 153) X dX6_least_88 (by decide) h (fun c23 h => ?_) (fun c23 h => ?_)
                · refine r_iload X 3 dX6_least_91 rfl ?_
                  obtain ⟨r25, h24, h⟩ := bd_some h
                  refine r_cS (Wd := 0) X (fun l D sz => w_J5_bitCount l D sz h24) q1090 q1789 q125 q1091 hy_J5_bitCount rfl dX6_least_93 rfl rfl (Nat.le_of_ble_eq_true rfl) ⟨Nat.le_of_ble_eq_true rfl, Nat.le_of_ble_eq_true rfl⟩ ⟨Nat.le_of_ble_eq_true rfl, Nat.le_of_ble_eq_true rfl⟩ ?_
                  refine r_iload X 4 dX6_least_96 rfl ?_
                  obtain ⟨r27, h26, h⟩ := bd_some h
                  refine r_cS (Wd := 1) X (fun l D sz => w_J5_bitCount l D sz h26) q1090 q1789 q125 q1091 hy_J5_bitCount rfl dX6_least_98 rfl rfl (Nat.le_of_ble_eq_true rfl) ⟨Nat.le_of_ble_eq_true rfl, Nat.le_of_ble_eq_true rfl⟩ ⟨Nat.le_of_ble_eq_true rfl, Nat.le_of_ble_eq_true rfl⟩ ?_
                  refine r_isub X dX6_least_101 ?_
                  refine r_istore X dX6_least_102 (hL 8 (by decide)) (lv' := [(8, iv ((r25 - r27))), (0, .ref (a0)), (3, iv (x3)), (5, iv (x5)), (6, iv (v6_1)), (7, iv (v7_1))]) rfl ?_
                  refine r_iload X 4 dX6_least_104 rfl ?_
                  refine r_iload X 5 dX6_least_106 rfl ?_
                  refine r_ixor X dX6_least_108 ?_
                  refine r_istore X dX6_least_109 (hL 9 (by decide)) (lv' := [(9, iv ((bXor (v6_1) (v7_1)))), (8, iv ((r25 - r27))), (0, .ref (a0)), (3, iv (x3)), (5, iv (x5)), (6, iv (v6_1)), (7, iv (v7_1))]) rfl ?_
                  refine r_iload X 1 dX6_least_111 rfl ?_
                  refine r_if_gt (tgt := 133) X dX6_least_113 (by decide) h (fun c28 h => ?_) (fun c28 h => ?_)
                  · exact V.sub [2, 3, 4, 5, 6] rfl (J133 (v6_1) (v7_1) h)
                  · refine r_iload X 1 dX6_least_116 rfl ?_
                    refine r_if_ne (tgt := 147) X dX6_least_118 (by decide) h (fun c29 h => ?_) (fun c29 h => ?_)
                    · refine r_iload X 6 dX6_least_121 rfl ?_
                      refine r_iload X 0 dX6_least_123 rfl ?_
                      refine r_iand X dX6_least_125 ?_
                      refine r_iload X 0 dX6_least_126 rfl ?_
                      refine r_ineg X dX6_least_128 ?_
                      refine r_iand X dX6_least_129 ?_
                      refine r_if_eq (tgt := 147) X dX6_least_130 (by decide) h (fun c30 h => ?_) (fun c30 h => ?_)
                      · refine r_iinc X 6 dX6_least_147 rfl (hL 7 (by decide)) (lv' := [(7, iv ((v7_1 + 1))), (9, iv ((bXor (v6_1) (v7_1)))), (8, iv ((r25 - r27))), (0, .ref (a0)), (3, iv (x3)), (5, iv (x5)), (6, iv (v6_1))]) rfl ?_
                        refine r_goto (tgt := 83) X dX6_least_150 (by decide) ?_
                        exact V.sub [3, 4, 5, 6, 0] rfl (ihb1 _ (Option.some.inj h).symm)
                      · exact V.sub [2, 3, 4, 5, 6] rfl (J133 (v6_1) (v7_1) h)
                    · refine r_iinc X 6 dX6_least_147 rfl (hL 7 (by decide)) (lv' := [(7, iv ((v7_1 + 1))), (9, iv ((bXor (v6_1) (v7_1)))), (8, iv ((r25 - r27))), (0, .ref (a0)), (3, iv (x3)), (5, iv (x5)), (6, iv (v6_1))]) rfl ?_
                      refine r_goto (tgt := 83) X dX6_least_150 (by decide) ?_
                      exact V.sub [3, 4, 5, 6, 0] rfl (ihb1 _ (Option.some.inj h).symm)
                · have h := ex_some h ihe1
                  refine r_iload X 2 dX6_least_153 rfl ?_
                  refine r_if_ne (tgt := 166) X dX6_least_155 (by decide) h (fun c31 h => ?_) (fun c31 h => ?_)
                  · refine r_iload X 3 dX6_least_158 rfl ?_
                    obtain ⟨r33, h32, h⟩ := bd_some h
                    refine r_cS (Wd := 0) X (fun l D sz => w_J5_bitCount l D sz h32) q1090 q1789 q125 q1091 hy_J5_bitCount rfl dX6_least_160 rfl rfl (Nat.le_of_ble_eq_true rfl) ⟨Nat.le_of_ble_eq_true rfl, Nat.le_of_ble_eq_true rfl⟩ ⟨Nat.le_of_ble_eq_true rfl, Nat.le_of_ble_eq_true rfl⟩ ?_
                    refine r_goto (tgt := 168) X dX6_least_163 (by decide) ?_
                    cases h
                    exact r_iret X hr dX6_least_168
                  · refine r_iload X 3 dX6_least_166 rfl ?_
                    cases h
                    exact r_iret X hr dX6_least_168
              exact V.sub [2, 5, 7, 1, 0] rfl (L83 (((bShl (1) (x3)) - 1), 1) h)
theorem hy_X6_like : yX6_like.cls ≠ "java/lang/invoke/MethodHandle" ∧ yX6_like.cls ≠ "java/lang/invoke/VarHandle" ∧ (parseMethodDescriptor yX6_like.desc).map (fun d => d.parameters.length) = some 3 := by decide +kernel
set_option maxHeartbeats 4000000 in
theorem w_X6_like (l : Launch) (D : DD) (sz : Nat) {σ : St} {a0 : Nat} {x1 : Int} {x2 : Int} {x3 : Int} {w : Int} (h : f_X6_like σ a0 x1 x2 x3 = some w) : Mt l yX6_like cX6_like 7 (some FieldType.int) ({ frames := 5, cells := 0, slots := 0, locals := 84 } : Room) D sz σ [.ref a0, iv (x1), iv (x2), iv (x3)] (.returned (some (iv w))) (σ) 0 0 := by
  refine Mt.of (by decide +kernel) (Nat.le_of_ble_eq_true rfl) ?_
  intro Γ X hr hnl hini hnoh
  have X : Cx Γ cX6_like "DayBoyModel" _ := X
  have hL : ∀ i, i < 7 → i < nLc Γ := fun i q => by rw [hnl]; exact q
  show V Γ σ 0 0 0 [(0, .ref (a0)), (1, iv (x1)), (2, iv (x2)), (3, iv (x3))] []
  unfold f_X6_like at h
  obtain ⟨ho0, h⟩ := cO_some h
  refine r_aload_n X 0 dX6_like_0 rfl rfl ?_
  refine r_iload_n X 1 dX6_like_1 rfl rfl ?_
  obtain ⟨r2, h1, h⟩ := bd_some h
  refine r_cV (Wd := 0) X (fun l D sz => w_X6_isCalendar l D sz h1) ho0.1 rfl q1622 qs75 q1620 q109 q1623 hy_X6_isCalendar rfl dX6_like_2 rfl rfl (Nat.le_of_ble_eq_true rfl) ⟨Nat.le_of_ble_eq_true rfl, Nat.le_of_ble_eq_true rfl⟩ ⟨Nat.le_of_ble_eq_true rfl, Nat.le_of_ble_eq_true rfl⟩ ?_
  refine r_if_eq (tgt := 23) X dX6_like_5 (by decide) h (fun c3 h => ?_) (fun c3 h => ?_)
  · refine r_iconst X dX6_like_23 ?_
    cases h
    exact r_iret X hr dX6_like_24
  · refine r_iload_n X 2 dX6_like_8 rfl rfl ?_
    refine r_iconst X dX6_like_9 ?_
    refine r_sipush X dX6_like_10 (by decide) ?_
    obtain ⟨r5, h4, h⟩ := bd_some h
    refine r_cS (Wd := 0) X (fun l D sz => w_X6_in l D sz h4) q1502 q1501 q109 q1503 hy_X6_in rfl dX6_like_13 rfl rfl (Nat.le_of_ble_eq_true rfl) ⟨Nat.le_of_ble_eq_true rfl, Nat.le_of_ble_eq_true rfl⟩ ⟨Nat.le_of_ble_eq_true rfl, Nat.le_of_ble_eq_true rfl⟩ ?_
    refine r_if_eq (tgt := 23) X dX6_like_16 (by decide) h (fun c6 h => ?_) (fun c6 h => ?_)
    · refine r_iconst X dX6_like_23 ?_
      cases h
      exact r_iret X hr dX6_like_24
    · refine r_iload_n X 3 dX6_like_19 rfl rfl ?_
      refine r_if_ge (tgt := 25) X dX6_like_20 (by decide) h (fun c7 h => ?_) (fun c7 h => ?_)
      · refine r_iconst X dX6_like_23 ?_
        cases h
        exact r_iret X hr dX6_like_24
      · refine r_aload_n X 0 dX6_like_25 rfl rfl ?_
        refine r_iload_n X 1 dX6_like_26 rfl rfl ?_
        refine r_iload_n X 2 dX6_like_27 rfl rfl ?_
        obtain ⟨r9, h8, h⟩ := bd_some h
        refine r_cV (Wd := 0) X (fun l D sz => w_X6_kindOf l D sz h8) ho0.1 rfl q1654 qs78 q1652 q109 q1655 hy_X6_kindOf rfl dX6_like_28 rfl rfl (Nat.le_of_ble_eq_true rfl) ⟨Nat.le_of_ble_eq_true rfl, Nat.le_of_ble_eq_true rfl⟩ ⟨Nat.le_of_ble_eq_true rfl, Nat.le_of_ble_eq_true rfl⟩ ?_
        refine r_istore X dX6_like_31 (hL 4 (by decide)) (lv' := [(4, iv (r9)), (0, .ref (a0)), (1, iv (x1)), (2, iv (x2)), (3, iv (x3))]) rfl ?_
        refine r_iconst X dX6_like_33 ?_
        refine r_istore X dX6_like_34 (hL 5 (by decide)) (lv' := [(5, iv (0)), (4, iv (r9)), (0, .ref (a0)), (1, iv (x1)), (2, iv (x2)), (3, iv (x3))]) rfl ?_
        refine r_iload_n X 4 dX6_like_36 rfl rfl ?_
        refine r_iconst X dX6_like_37 ?_
        refine r_iadd X dX6_like_38 ?_
        refine r_istore X dX6_like_39 (hL 6 (by decide)) (lv' := [(6, iv ((x2 + 1))), (5, iv (0)), (4, iv (r9)), (0, .ref (a0)), (1, iv (x1)), (2, iv (x2)), (3, iv (x3))]) rfl ?_
        have L41 : ∀ s : Int × Int, lp (fun s => f_X6_like_b41 (σ) (a0) (x1) (x3) (r9) s.1 s.2) s = some w → V Γ (σ) 0 0 41 [(0, .ref (a0)), (1, iv (x1)), (3, iv (x3)), (4, iv (r9)), (5, iv (s.1)), (6, iv (s.2))] [] := by
          refine lp_rule (P := fun s : Int × Int => V Γ (σ) 0 0 41 [(0, .ref (a0)), (1, iv (x1)), (3, iv (x3)), (4, iv (r9)), (5, iv (s.1)), (6, iv (s.2))] []) ?_
          intro s z1 h ihb1 ihe1
          obtain ⟨v5_1, v6_1⟩ := s
          have h : f_X6_like_b41 (σ) (a0) (x1) (x3) (r9) v5_1 v6_1 = some z1 := h
          unfold f_X6_like_b41 at h
          show V Γ σ 0 0 41 [(0, .ref (a0)), (1, iv (x1)), (3, iv (x3)), (4, iv (r9)), (5, iv (v5_1)), (6, iv (v6_1))] []
          refine r_iload X 5 dX6_like_41 rfl ?_
          refine r_sipush X dX6_like_43 (by decide) ?_
          refine r_icmp_gt (tgt := 85) X dX6_like_46 (by decide) h (fun c10 h => ?_) (fun c10 h => ?_)
          · have h := ex_some h ihe1
            refine r_iconst X dX6_like_85 ?_
            cases h
            exact r_iret X hr dX6_like_86
          · refine r_iload X 3 dX6_like_49 rfl ?_
            refine r_iconst X dX6_like_51 ?_
            refine r_icmp_eq (tgt := 85) X dX6_like_52 (by decide) h (fun c11 h => ?_) (fun c11 h => ?_)
            · have h := ex_some h ihe1
              refine r_iconst X dX6_like_85 ?_
              cases h
              exact r_iret X hr dX6_like_86
            · refine r_aload_n X 0 dX6_like_55 rfl rfl ?_
              refine r_iload_n X 1 dX6_like_56 rfl rfl ?_
              refine r_iload X 5 dX6_like_57 rfl ?_
              obtain ⟨r13, h12, h⟩ := bd_some h
              refine r_cV (Wd := 0) X (fun l D sz => w_X6_kindOf l D sz h12) ho0.1 rfl q1654 qs78 q1652 q109 q1655 hy_X6_kindOf rfl dX6_like_59 rfl rfl (Nat.le_of_ble_eq_true rfl) ⟨Nat.le_of_ble_eq_true rfl, Nat.le_of_ble_eq_true rfl⟩ ⟨Nat.le_of_ble_eq_true rfl, Nat.le_of_ble_eq_true rfl⟩ ?_
              refine r_iload X 3 dX6_like_62 rfl ?_
              refine r_icmp_ne (tgt := 79) X dX6_like_64 (by decide) h (fun c14 h => ?_) (fun c14 h => ?_)
              · refine r_iload X 4 dX6_like_67 rfl ?_
                refine r_iload_n X 2 dX6_like_69 rfl rfl ?_
                refine r_icmp_ne (tgt := 76) X dX6_like_70 (by decide) h (fun c15 h => ?_) (fun c15 h => ?_)
                · have h := ex_some h ihe1
                  refine r_iload X 5 dX6_like_73 rfl ?_
                  cases h
                  exact r_iret X hr dX6_like_75
                · refine r_iinc X 4 dX6_like_76 rfl (hL 5 (by decide)) (lv' := [(5, iv ((v5_1 + 1))), (0, .ref (a0)), (1, iv (x1)), (3, iv (x3)), (4, iv (r9)), (6, iv (v6_1))]) rfl ?_
                  refine r_iinc X 5 dX6_like_79 rfl (hL 6 (by decide)) (lv' := [(6, iv ((v6_1 + 1))), (5, iv ((v5_1 + 1))), (0, .ref (a0)), (1, iv (x1)), (3, iv (x3)), (4, iv (r9))]) rfl ?_
                  refine r_goto (tgt := 41) X dX6_like_82 (by decide) ?_
                  exact V.sub [2, 3, 4, 5, 1, 0] rfl (ihb1 _ (Option.some.inj h).symm)
              · refine r_iinc X 5 dX6_like_79 rfl (hL 6 (by decide)) (lv' := [(6, iv ((v6_1 + 1))), (0, .ref (a0)), (1, iv (x1)), (3, iv (x3)), (4, iv (r9)), (5, iv (v5_1))]) rfl ?_
                refine r_goto (tgt := 41) X dX6_like_82 (by decide) ?_
                exact V.sub [1, 2, 3, 4, 5, 0] rfl (ihb1 _ (Option.some.inj h).symm)
        exact V.sub [3, 4, 6, 2, 1, 0] rfl (L41 (0, (x2 + 1)) h)
theorem hy_X6_thirteenths : yX6_thirteenths.cls ≠ "java/lang/invoke/MethodHandle" ∧ yX6_thirteenths.cls ≠ "java/lang/invoke/VarHandle" ∧ (parseMethodDescriptor yX6_thirteenths.desc).map (fun d => d.parameters.length) = some 4 := by decide +kernel
set_option maxHeartbeats 4000000 in
theorem w_X6_thirteenths (l : Launch) (D : DD) (sz : Nat) {σ : St} {a0 : Nat} {x1 : Int} {x2 : Int} {x3 : Int} {x4 : Int} {w : Int} (h : f_X6_thirteenths σ a0 x1 x2 x3 x4 = some w) : Mt l yX6_thirteenths cX6_thirteenths 8 (some FieldType.int) ({ frames := 4, cells := 0, slots := 0, locals := 69 } : Room) D sz σ [.ref a0, iv (x1), iv (x2), iv (x3), iv (x4)] (.returned (some (iv w))) (σ) 0 0 := by
  refine Mt.of (by decide +kernel) (Nat.le_of_ble_eq_true rfl) ?_
  intro Γ X hr hnl hini hnoh
  have X : Cx Γ cX6_thirteenths "DayBoyModel" _ := X
  have hL : ∀ i, i < 8 → i < nLc Γ := fun i q => by rw [hnl]; exact q
  show V Γ σ 0 0 0 [(0, .ref (a0)), (1, iv (x1)), (2, iv (x2)), (3, iv (x3)), (4, iv (x4))] []
  unfold f_X6_thirteenths at h
  obtain ⟨ho0, h⟩ := cO_some h
  refine r_aload_n X 0 dX6_thirteenths_0 rfl rfl ?_
  refine r_iload_n X 1 dX6_thirteenths_1 rfl rfl ?_
  obtain ⟨r2, h1, h⟩ := bd_some h
  refine r_cV (Wd := 0) X (fun l D sz => w_X6_isCalendar l D sz h1) ho0.1 rfl q1622 qs75 q1620 q109 q1623 hy_X6_isCalendar rfl dX6_thirteenths_2 rfl rfl (Nat.le_of_ble_eq_true rfl) ⟨Nat.le_of_ble_eq_true rfl, Nat.le_of_ble_eq_true rfl⟩ ⟨Nat.le_of_ble_eq_true rfl, Nat.le_of_ble_eq_true rfl⟩ ?_
  refine r_if_eq (tgt := 41) X dX6_thirteenths_5 (by decide) h (fun c3 h => ?_) (fun c3 h => ?_)
  · refine r_iconst X dX6_thirteenths_41 ?_
    cases h
    exact r_iret X hr dX6_thirteenths_42
  · refine r_iload_n X 2 dX6_thirteenths_8 rfl rfl ?_
    refine r_iconst X dX6_thirteenths_9 ?_
    refine r_sipush X dX6_thirteenths_10 (by decide) ?_
    obtain ⟨r5, h4, h⟩ := bd_some h
    refine r_cS (Wd := 0) X (fun l D sz => w_X6_in l D sz h4) q1502 q1501 q109 q1503 hy_X6_in rfl dX6_thirteenths_13 rfl rfl (Nat.le_of_ble_eq_true rfl) ⟨Nat.le_of_ble_eq_true rfl, Nat.le_of_ble_eq_true rfl⟩ ⟨Nat.le_of_ble_eq_true rfl, Nat.le_of_ble_eq_true rfl⟩ ?_
    refine r_if_eq (tgt := 41) X dX6_thirteenths_16 (by decide) h (fun c6 h => ?_) (fun c6 h => ?_)
    · refine r_iconst X dX6_thirteenths_41 ?_
      cases h
      exact r_iret X hr dX6_thirteenths_42
    · refine r_iload_n X 3 dX6_thirteenths_19 rfl rfl ?_
      refine r_iload_n X 2 dX6_thirteenths_20 rfl rfl ?_
      refine r_sipush X dX6_thirteenths_21 (by decide) ?_
      obtain ⟨r8, h7, h⟩ := bd_some h
      refine r_cS (Wd := 0) X (fun l D sz => w_X6_in l D sz h7) q1502 q1501 q109 q1503 hy_X6_in rfl dX6_thirteenths_24 rfl rfl (Nat.le_of_ble_eq_true rfl) ⟨Nat.le_of_ble_eq_true rfl, Nat.le_of_ble_eq_true rfl⟩ ⟨Nat.le_of_ble_eq_true rfl, Nat.le_of_ble_eq_true rfl⟩ ?_
      refine r_if_eq (tgt := 41) X dX6_thirteenths_27 (by decide) h (fun c9 h => ?_) (fun c9 h => ?_)
      · refine r_iconst X dX6_thirteenths_41 ?_
        cases h
        exact r_iret X hr dX6_thirteenths_42
      · refine r_iload X 4 dX6_thirteenths_30 rfl ?_
        refine r_iconst X dX6_thirteenths_32 ?_
        refine r_bipush X dX6_thirteenths_33 (by decide) ?_
        obtain ⟨r11, h10, h⟩ := bd_some h
        refine r_cS (Wd := 0) X (fun l D sz => w_X6_in l D sz h10) q1502 q1501 q109 q1503 hy_X6_in rfl dX6_thirteenths_35 rfl rfl (Nat.le_of_ble_eq_true rfl) ⟨Nat.le_of_ble_eq_true rfl, Nat.le_of_ble_eq_true rfl⟩ ⟨Nat.le_of_ble_eq_true rfl, Nat.le_of_ble_eq_true rfl⟩ ?_
        refine r_if_ne (tgt := 43) X dX6_thirteenths_38 (by decide) h (fun c12 h => ?_) (fun c12 h => ?_)
        · refine r_iconst X dX6_thirteenths_41 ?_
          cases h
          exact r_iret X hr dX6_thirteenths_42
        · refine r_iconst X dX6_thirteenths_43 ?_
          refine r_istore X dX6_thirteenths_44 (hL 5 (by decide)) (lv' := [(5, iv (0)), (0, .ref (a0)), (1, iv (x1)), (2, iv (x2)), (3, iv (x3)), (4, iv (x4))]) rfl ?_
          refine r_iload_n X 3 dX6_thirteenths_46 rfl rfl ?_
          refine r_istore X dX6_thirteenths_47 (hL 6 (by decide)) (lv' := [(6, iv (x2)), (5, iv (0)), (0, .ref (a0)), (1, iv (x1)), (2, iv (x2)), (3, iv (x3)), (4, iv (x4))]) rfl ?_
          have L49 : ∀ s : Int × Int, lp (fun s => f_X6_thirteenths_b49 (σ) (a0) (x1) (x3) (x4) s.1 s.2) s = some w → V Γ (σ) 0 0 49 [(0, .ref (a0)), (1, iv (x1)), (3, iv (x3)), (4, iv (x4)), (5, iv (s.1)), (6, iv (s.2))] [] := by
            refine lp_rule (P := fun s : Int × Int => V Γ (σ) 0 0 49 [(0, .ref (a0)), (1, iv (x1)), (3, iv (x3)), (4, iv (x4)), (5, iv (s.1)), (6, iv (s.2))] []) ?_
            intro s z1 h ihb1 ihe1
            obtain ⟨v5_1, v6_1⟩ := s
            have h : f_X6_thirteenths_b49 (σ) (a0) (x1) (x3) (x4) v5_1 v6_1 = some z1 := h
            unfold f_X6_thirteenths_b49 at h
            show V Γ σ 0 0 49 [(0, .ref (a0)), (1, iv (x1)), (3, iv (x3)), (4, iv (x4)), (5, iv (v5_1)), (6, iv (v6_1))] []
            refine r_iload X 5 dX6_thirteenths_49 rfl ?_
            refine r_iload_n X 2 dX6_thirteenths_51 rfl rfl ?_
            refine r_icmp_gt (tgt := 120) X dX6_thirteenths_52 (by decide) h (fun c13 h => ?_) (fun c13 h => ?_)
            · have h := ex_some h ihe1
              refine r_iload X 4 dX6_thirteenths_120 rfl ?_
              cases h
              exact r_iret X hr dX6_thirteenths_122
            · refine r_iconst X dX6_thirteenths_55 ?_
              refine r_istore X dX6_thirteenths_56 (hL 7 (by decide)) (lv' := [(7, iv (1)), (0, .ref (a0)), (1, iv (x1)), (3, iv (x3)), (4, iv (x4)), (5, iv (v5_1)), (6, iv (v6_1))]) rfl ?_
              have L58 : ∀ s : Int × Int, lp (fun s => f_X6_thirteenths_b58 (σ) (a0) (x1) (x3) (x4) (v6_1) s.1 s.2) s = some z1 → V Γ (σ) 0 0 58 [(0, .ref (a0)), (1, iv (x1)), (3, iv (x3)), (4, iv (x4)), (5, iv (s.1)), (6, iv (v6_1)), (7, iv (s.2))] [] := by
                refine lp_rule (P := fun s : Int × Int => V Γ (σ) 0 0 58 [(0, .ref (a0)), (1, iv (x1)), (3, iv (x3)), (4, iv (x4)), (5, iv (s.1)), (6, iv (v6_1)), (7, iv (s.2))] []) ?_
                intro s z2 h ihb2 ihe2
                obtain ⟨v5_2, v7_2⟩ := s
                have h : f_X6_thirteenths_b58 (σ) (a0) (x1) (x3) (x4) (v6_1) v5_2 v7_2 = some z2 := h
                unfold f_X6_thirteenths_b58 at h
                show V Γ σ 0 0 58 [(0, .ref (a0)), (1, iv (x1)), (3, iv (x3)), (4, iv (x4)), (5, iv (v5_2)), (6, iv (v6_1)), (7, iv (v7_2))] []
                refine r_iload X 6 dX6_thirteenths_58 rfl ?_
                refine r_bipush X dX6_thirteenths_60 (by decide) ?_
                refine r_icmp_gt (tgt := 114) X dX6_thirteenths_62 (by decide) h (fun c14 h => ?_) (fun c14 h => ?_)
                · have h := ex_some h ihe2
                  refine r_iinc X 5 dX6_thirteenths_114 rfl (hL 6 (by decide)) (lv' := [(6, iv ((v6_1 + 1))), (0, .ref (a0)), (1, iv (x1)), (3, iv (x3)), (4, iv (x4)), (5, iv (v5_2)), (7, iv (v7_2))]) rfl ?_
                  refine r_goto (tgt := 49) X dX6_thirteenths_117 (by decide) ?_
                  exact V.sub [1, 2, 3, 4, 5, 0] rfl (ihb1 _ (Option.some.inj h).symm)
                · refine r_iload X 4 dX6_thirteenths_65 rfl ?_
                  refine r_aload_n X 0 dX6_thirteenths_67 rfl rfl ?_
                  refine r_iload_n X 1 dX6_thirteenths_68 rfl rfl ?_
                  refine r_iload X 5 dX6_thirteenths_69 rfl ?_
                  refine r_iload X 6 dX6_thirteenths_71 rfl ?_
                  refine r_bipush X dX6_thirteenths_73 (by decide) ?_
                  obtain ⟨r16, h15, h⟩ := bd_some h
                  refine r_cV (Wd := 1) X (fun l D sz => w_X6_isDate l D sz h15) ho0.1 rfl q1614 qs73 q1612 q109 q1615 hy_X6_isDate rfl dX6_thirteenths_75 rfl rfl (Nat.le_of_ble_eq_true rfl) ⟨Nat.le_of_ble_eq_true rfl, Nat.le_of_ble_eq_true rfl⟩ ⟨Nat.le_of_ble_eq_true rfl, Nat.le_of_ble_eq_true rfl⟩ ?_
                  refine r_if_eq (tgt := 104) X dX6_thirteenths_78 (by decide) h (fun c17 h => ?_) (fun c17 h => ?_)
                  · refine r_iconst X dX6_thirteenths_104 ?_
                    refine r_iadd X dX6_thirteenths_105 ?_
                    refine r_istore X dX6_thirteenths_106 (hL 5 (by decide)) (lv' := [(5, iv ((v5_2 + 0))), (0, .ref (a0)), (1, iv (x1)), (3, iv (x3)), (4, iv (x4)), (6, iv (v6_1)), (7, iv (v7_2))]) rfl ?_
                    refine r_iinc X 6 dX6_thirteenths_108 rfl (hL 7 (by decide)) (lv' := [(7, iv ((v7_2 + 1))), (5, iv ((v5_2 + 0))), (0, .ref (a0)), (1, iv (x1)), (3, iv (x3)), (4, iv (x4)), (6, iv (v6_1))]) rfl ?_
                    refine r_goto (tgt := 58) X dX6_thirteenths_111 (by decide) ?_
                    exact V.sub [2, 3, 4, 5, 1, 6, 0] rfl (ihb2 _ (Option.some.inj h).symm)
                  · refine r_aload_n X 0 dX6_thirteenths_81 rfl rfl ?_
                    refine r_iload_n X 1 dX6_thirteenths_82 rfl rfl ?_
                    refine r_iload X 5 dX6_thirteenths_83 rfl ?_
                    refine r_iload X 6 dX6_thirteenths_85 rfl ?_
                    refine r_bipush X dX6_thirteenths_87 (by decide) ?_
                    obtain ⟨r19, h18, h⟩ := bd_some h
                    refine r_cV (Wd := 1) X (fun l D sz => w_X6_dayOf l D sz h18) ho0.1 rfl q1626 qs76 q1624 q109 q1627 hy_X6_dayOf rfl dX6_thirteenths_89 rfl rfl (Nat.le_of_ble_eq_true rfl) ⟨Nat.le_of_ble_eq_true rfl, Nat.le_of_ble_eq_true rfl⟩ ⟨Nat.le_of_ble_eq_true rfl, Nat.le_of_ble_eq_true rfl⟩ ?_
                    refine r_bipush X dX6_thirteenths_92 (by decide) ?_
                    obtain ⟨c20, h⟩ := ck_some h
                    refine r_irem X dX6_thirteenths_94 c20 (by decide) (by decide) ?_
                    refine r_iload X 3 dX6_thirteenths_95 rfl ?_
                    refine r_icmp_ne (tgt := 104) X dX6_thirteenths_97 (by decide) h (fun c21 h => ?_) (fun c21 h => ?_)
                    · refine r_iconst X dX6_thirteenths_100 ?_
                      refine r_goto (tgt := 105) X dX6_thirteenths_101 (by decide) ?_
                      refine r_iadd X dX6_thirteenths_105 ?_
                      refine r_istore X dX6_thirteenths_106 (hL 5 (by decide)) (lv' := [(5, iv ((v5_2 + 1))), (0, .ref (a0)), (1, iv (x1)), (3, iv (x3)), (4, iv (x4)), (6, iv (v6_1)), (7, iv (v7_2))]) rfl ?_
                      refine r_iinc X 6 dX6_thirteenths_108 rfl (hL 7 (by decide)) (lv' := [(7, iv ((v7_2 + 1))), (5, iv ((v5_2 + 1))), (0, .ref (a0)), (1, iv (x1)), (3, iv (x3)), (4, iv (x4)), (6, iv (v6_1))]) rfl ?_
                      refine r_goto (tgt := 58) X dX6_thirteenths_111 (by decide) ?_
                      exact V.sub [2, 3, 4, 5, 1, 6, 0] rfl (ihb2 _ (Option.some.inj h).symm)
                    · refine r_iconst X dX6_thirteenths_104 ?_
                      refine r_iadd X dX6_thirteenths_105 ?_
                      refine r_istore X dX6_thirteenths_106 (hL 5 (by decide)) (lv' := [(5, iv ((v5_2 + 0))), (0, .ref (a0)), (1, iv (x1)), (3, iv (x3)), (4, iv (x4)), (6, iv (v6_1)), (7, iv (v7_2))]) rfl ?_
                      refine r_iinc X 6 dX6_thirteenths_108 rfl (hL 7 (by decide)) (lv' := [(7, iv ((v7_2 + 1))), (5, iv ((v5_2 + 0))), (0, .ref (a0)), (1, iv (x1)), (3, iv (x3)), (4, iv (x4)), (6, iv (v6_1))]) rfl ?_
                      refine r_goto (tgt := 58) X dX6_thirteenths_111 (by decide) ?_
                      exact V.sub [2, 3, 4, 5, 1, 6, 0] rfl (ihb2 _ (Option.some.inj h).symm)
              exact V.sub [1, 2, 3, 4, 5, 6, 0] rfl (L58 (v5_1, 1) h)
          exact V.sub [2, 3, 5, 6, 1, 0] rfl (L49 (0, x2) h)
theorem hy_X6_mates : yX6_mates.cls ≠ "java/lang/invoke/MethodHandle" ∧ yX6_mates.cls ≠ "java/lang/invoke/VarHandle" ∧ (parseMethodDescriptor yX6_mates.desc).map (fun d => d.parameters.length) = some 3 := by decide +kernel
set_option maxHeartbeats 4000000 in
theorem w_X6_mates (l : Launch) (D : DD) (sz : Nat) {σ : St} {a0 : Nat} {x1 : Int} {x2 : Int} {x3 : Int} {w : Int} (h : f_X6_mates σ a0 x1 x2 x3 = some w) : Mt l yX6_mates cX6_mates 6 (some FieldType.int) ({ frames := 4, cells := 0, slots := 0, locals := 70 } : Room) D sz σ [.ref a0, iv (x1), iv (x2), iv (x3)] (.returned (some (iv w))) (σ) 0 0 := by
  refine Mt.of (by decide +kernel) (Nat.le_of_ble_eq_true rfl) ?_
  intro Γ X hr hnl hini hnoh
  have X : Cx Γ cX6_mates "DayBoyModel" _ := X
  have hL : ∀ i, i < 6 → i < nLc Γ := fun i q => by rw [hnl]; exact q
  show V Γ σ 0 0 0 [(0, .ref (a0)), (1, iv (x1)), (2, iv (x2)), (3, iv (x3))] []
  unfold f_X6_mates at h
  obtain ⟨ho0, h⟩ := cO_some h
  refine r_aload_n X 0 dX6_mates_0 rfl rfl ?_
  refine r_iload_n X 1 dX6_mates_1 rfl rfl ?_
  refine r_iload_n X 2 dX6_mates_2 rfl rfl ?_
  refine r_iload_n X 3 dX6_mates_3 rfl rfl ?_
  refine r_iconst X dX6_mates_4 ?_
  obtain ⟨r2, h1, h⟩ := bd_some h
  refine r_cV (Wd := 0) X (fun l D sz => w_X6_isDate l D sz h1) ho0.1 rfl q1614 qs73 q1612 q109 q1615 hy_X6_isDate rfl dX6_mates_5 rfl rfl (Nat.le_of_ble_eq_true rfl) ⟨Nat.le_of_ble_eq_true rfl, Nat.le_of_ble_eq_true rfl⟩ ⟨Nat.le_of_ble_eq_true rfl, Nat.le_of_ble_eq_true rfl⟩ ?_
  refine r_if_ne (tgt := 13) X dX6_mates_8 (by decide) h (fun c3 h => ?_) (fun c3 h => ?_)
  · refine r_iconst X dX6_mates_11 ?_
    cases h
    exact r_iret X hr dX6_mates_12
  · refine r_iconst X dX6_mates_13 ?_
    refine r_istore X dX6_mates_14 (hL 4 (by decide)) (lv' := [(4, iv (0)), (0, .ref (a0)), (1, iv (x1)), (2, iv (x2)), (3, iv (x3))]) rfl ?_
    refine r_iconst X dX6_mates_16 ?_
    refine r_istore X dX6_mates_17 (hL 5 (by decide)) (lv' := [(5, iv (1)), (4, iv (0)), (0, .ref (a0)), (1, iv (x1)), (2, iv (x2)), (3, iv (x3))]) rfl ?_
    have L19 : ∀ s : Int × Int, lp (fun s => f_X6_mates_b19 (σ) (a0) (x1) (x2) (x3) s.1 s.2) s = some w → V Γ (σ) 0 0 19 [(0, .ref (a0)), (1, iv (x1)), (2, iv (x2)), (3, iv (x3)), (4, iv (s.1)), (5, iv (s.2))] [] := by
      refine lp_rule (P := fun s : Int × Int => V Γ (σ) 0 0 19 [(0, .ref (a0)), (1, iv (x1)), (2, iv (x2)), (3, iv (x3)), (4, iv (s.1)), (5, iv (s.2))] []) ?_
      intro s z1 h ihb1 ihe1
      obtain ⟨v4_1, v5_1⟩ := s
      have h : f_X6_mates_b19 (σ) (a0) (x1) (x2) (x3) v4_1 v5_1 = some z1 := h
      unfold f_X6_mates_b19 at h
      show V Γ σ 0 0 19 [(0, .ref (a0)), (1, iv (x1)), (2, iv (x2)), (3, iv (x3)), (4, iv (v4_1)), (5, iv (v5_1))] []
      refine r_iload X 5 dX6_mates_19 rfl ?_
      refine r_bipush X dX6_mates_21 (by decide) ?_
      refine r_icmp_gt (tgt := 85) X dX6_mates_23 (by decide) h (fun c4 h => ?_) (fun c4 h => ?_)
      · have h := ex_some h ihe1
        refine r_iload X 4 dX6_mates_85 rfl ?_
        cases h
        exact r_iret X hr dX6_mates_87
      · refine r_iload X 4 dX6_mates_26 rfl ?_
        refine r_aload_n X 0 dX6_mates_28 rfl rfl ?_
        refine r_iload_n X 1 dX6_mates_29 rfl rfl ?_
        refine r_iload_n X 2 dX6_mates_30 rfl rfl ?_
        refine r_iload X 5 dX6_mates_31 rfl ?_
        refine r_iconst X dX6_mates_33 ?_
        obtain ⟨r6, h5, h⟩ := bd_some h
        refine r_cV (Wd := 1) X (fun l D sz => w_X6_isDate l D sz h5) ho0.1 rfl q1614 qs73 q1612 q109 q1615 hy_X6_isDate rfl dX6_mates_34 rfl rfl (Nat.le_of_ble_eq_true rfl) ⟨Nat.le_of_ble_eq_true rfl, Nat.le_of_ble_eq_true rfl⟩ ⟨Nat.le_of_ble_eq_true rfl, Nat.le_of_ble_eq_true rfl⟩ ?_
        refine r_if_eq (tgt := 75) X dX6_mates_37 (by decide) h (fun c7 h => ?_) (fun c7 h => ?_)
        · refine r_iconst X dX6_mates_75 ?_
          refine r_ior X dX6_mates_76 ?_
          refine r_istore X dX6_mates_77 (hL 4 (by decide)) (lv' := [(4, iv ((bOr (v4_1) (0)))), (0, .ref (a0)), (1, iv (x1)), (2, iv (x2)), (3, iv (x3)), (5, iv (v5_1))]) rfl ?_
          refine r_iinc X 5 dX6_mates_79 rfl (hL 5 (by decide)) (lv' := [(5, iv ((v5_1 + 1))), (4, iv ((bOr (v4_1) (0)))), (0, .ref (a0)), (1, iv (x1)), (2, iv (x2)), (3, iv (x3))]) rfl ?_
          refine r_goto (tgt := 19) X dX6_mates_82 (by decide) ?_
          exact V.sub [2, 3, 4, 5, 1, 0] rfl (ihb1 _ (Option.some.inj h).symm)
        · refine r_aload_n X 0 dX6_mates_40 rfl rfl ?_
          refine r_iload_n X 1 dX6_mates_41 rfl rfl ?_
          refine r_iload_n X 2 dX6_mates_42 rfl rfl ?_
          refine r_iload X 5 dX6_mates_43 rfl ?_
          refine r_iconst X dX6_mates_45 ?_
          obtain ⟨r9, h8, h⟩ := bd_some h
          refine r_cV (Wd := 1) X (fun l D sz => w_X6_dayOf l D sz h8) ho0.1 rfl q1626 qs76 q1624 q109 q1627 hy_X6_dayOf rfl dX6_mates_46 rfl rfl (Nat.le_of_ble_eq_true rfl) ⟨Nat.le_of_ble_eq_true rfl, Nat.le_of_ble_eq_true rfl⟩ ⟨Nat.le_of_ble_eq_true rfl, Nat.le_of_ble_eq_true rfl⟩ ?_
          refine r_bipush X dX6_mates_49 (by decide) ?_
          obtain ⟨c10, h⟩ := ck_some h
          refine r_irem X dX6_mates_51 c10 (by decide) (by decide) ?_
          refine r_aload_n X 0 dX6_mates_52 rfl rfl ?_
          refine r_iload_n X 1 dX6_mates_53 rfl rfl ?_
          refine r_iload_n X 2 dX6_mates_54 rfl rfl ?_
          refine r_iload_n X 3 dX6_mates_55 rfl rfl ?_
          refine r_iconst X dX6_mates_56 ?_
          obtain ⟨r12, h11, h⟩ := bd_some h
          refine r_cV (Wd := 2) X (fun l D sz => w_X6_dayOf l D sz h11) ho0.1 rfl q1626 qs76 q1624 q109 q1627 hy_X6_dayOf rfl dX6_mates_57 rfl rfl (Nat.le_of_ble_eq_true rfl) ⟨Nat.le_of_ble_eq_true rfl, Nat.le_of_ble_eq_true rfl⟩ ⟨Nat.le_of_ble_eq_true rfl, Nat.le_of_ble_eq_true rfl⟩ ?_
          refine r_bipush X dX6_mates_60 (by decide) ?_
          obtain ⟨c13, h⟩ := ck_some h
          refine r_irem X dX6_mates_62 c13 (by decide) (by decide) ?_
          refine r_icmp_ne (tgt := 75) X dX6_mates_63 (by decide) h (fun c14 h => ?_) (fun c14 h => ?_)
          · refine r_iconst X dX6_mates_66 ?_
            refine r_iload X 5 dX6_mates_67 rfl ?_
            refine r_iconst X dX6_mates_69 ?_
            refine r_isub X dX6_mates_70 ?_
            refine r_ishl X dX6_mates_71 ?_
            refine r_goto (tgt := 76) X dX6_mates_72 (by decide) ?_
            refine r_ior X dX6_mates_76 ?_
            refine r_istore X dX6_mates_77 (hL 4 (by decide)) (lv' := [(4, iv ((bOr (v4_1) ((bShl (1) ((v5_1 - 1))))))), (0, .ref (a0)), (1, iv (x1)), (2, iv (x2)), (3, iv (x3)), (5, iv (v5_1))]) rfl ?_
            refine r_iinc X 5 dX6_mates_79 rfl (hL 5 (by decide)) (lv' := [(5, iv ((v5_1 + 1))), (4, iv ((bOr (v4_1) ((bShl (1) ((v5_1 - 1))))))), (0, .ref (a0)), (1, iv (x1)), (2, iv (x2)), (3, iv (x3))]) rfl ?_
            refine r_goto (tgt := 19) X dX6_mates_82 (by decide) ?_
            exact V.sub [2, 3, 4, 5, 1, 0] rfl (ihb1 _ (Option.some.inj h).symm)
          · refine r_iconst X dX6_mates_75 ?_
            refine r_ior X dX6_mates_76 ?_
            refine r_istore X dX6_mates_77 (hL 4 (by decide)) (lv' := [(4, iv ((bOr (v4_1) (0)))), (0, .ref (a0)), (1, iv (x1)), (2, iv (x2)), (3, iv (x3)), (5, iv (v5_1))]) rfl ?_
            refine r_iinc X 5 dX6_mates_79 rfl (hL 5 (by decide)) (lv' := [(5, iv ((v5_1 + 1))), (4, iv ((bOr (v4_1) (0)))), (0, .ref (a0)), (1, iv (x1)), (2, iv (x2)), (3, iv (x3))]) rfl ?_
            refine r_goto (tgt := 19) X dX6_mates_82 (by decide) ?_
            exact V.sub [2, 3, 4, 5, 1, 0] rfl (ihb1 _ (Option.some.inj h).symm)
    exact V.sub [2, 3, 4, 5, 1, 0] rfl (L19 (0, 1) h)
theorem hy_X6_born : yX6_born.cls ≠ "java/lang/invoke/MethodHandle" ∧ yX6_born.cls ≠ "java/lang/invoke/VarHandle" ∧ (parseMethodDescriptor yX6_born.desc).map (fun d => d.parameters.length) = some 4 := by decide +kernel
set_option maxHeartbeats 4000000 in
theorem w_X6_born (l : Launch) (D : DD) (sz : Nat) {σ : St} {a0 : Nat} {x1 : Int} {x2 : Int} {x3 : Int} {x4 : Int} {w : Int × St} (h : f_X6_born σ a0 x1 x2 x3 x4 = some w) : Mt l yX6_born cX6_born 5 (some FieldType.boolean) ({ frames := 4, cells := 0, slots := 0, locals := 69 } : Room) D sz σ [.ref a0, iv (x1), iv (x2), iv (x3), iv (x4)] (.returned (some (iv w.1))) (w.2) 0 0 := by
  refine Mt.of (by decide +kernel) (Nat.le_of_ble_eq_true rfl) ?_
  intro Γ X hr hnl hini hnoh
  have X : Cx Γ cX6_born "DayBoyModel" _ := X
  have hL : ∀ i, i < 5 → i < nLc Γ := fun i q => by rw [hnl]; exact q
  show V Γ σ 0 0 0 [(0, .ref (a0)), (1, iv (x1)), (2, iv (x2)), (3, iv (x3)), (4, iv (x4))] []
  unfold f_X6_born at h
  obtain ⟨ho0, h⟩ := cO_some h
  refine r_aload_n X 0 dX6_born_0 rfl rfl ?_
  refine r_iload_n X 1 dX6_born_1 rfl rfl ?_
  refine r_iload_n X 2 dX6_born_2 rfl rfl ?_
  refine r_iload_n X 3 dX6_born_3 rfl rfl ?_
  refine r_iload X 4 dX6_born_4 rfl ?_
  obtain ⟨r2, h1, h⟩ := bd_some h
  refine r_cV (Wd := 0) X (fun l D sz => w_X6_isDate l D sz h1) ho0.1 rfl q1614 qs73 q1612 q109 q1615 hy_X6_isDate rfl dX6_born_6 rfl rfl (Nat.le_of_ble_eq_true rfl) ⟨Nat.le_of_ble_eq_true rfl, Nat.le_of_ble_eq_true rfl⟩ ⟨Nat.le_of_ble_eq_true rfl, Nat.le_of_ble_eq_true rfl⟩ ?_
  refine r_if_ne (tgt := 14) X dX6_born_9 (by decide) h (fun c3 h => ?_) (fun c3 h => ?_)
  · refine r_iconst X dX6_born_12 ?_
    cases h
    exact r_zret X hr (by decide) dX6_born_13
  · refine r_aload_n X 0 dX6_born_14 rfl rfl ?_
    refine r_aload_n X 0 dX6_born_15 rfl rfl ?_
    refine r_iload_n X 1 dX6_born_16 rfl rfl ?_
    refine r_iload_n X 2 dX6_born_17 rfl rfl ?_
    refine r_iload_n X 3 dX6_born_18 rfl rfl ?_
    refine r_iload X 4 dX6_born_19 rfl ?_
    obtain ⟨r6, h5, h⟩ := bd_some h
    refine r_cV (Wd := 1) X (fun l D sz => w_X6_dayOf l D sz h5) ho0.1 rfl q1626 qs76 q1624 q109 q1627 hy_X6_dayOf rfl dX6_born_21 rfl rfl (Nat.le_of_ble_eq_true rfl) ⟨Nat.le_of_ble_eq_true rfl, Nat.le_of_ble_eq_true rfl⟩ ⟨Nat.le_of_ble_eq_true rfl, Nat.le_of_ble_eq_true rfl⟩ ?_
    refine r_putI (kf := 56) X ho0.1 rfl (by decide) rfl rfl (Or.inl q1297) dX6_born_24 rfl ?_
    refine r_let h (fun σ7 eσ7 h => ?_)
    refine r_aload_n X 0 dX6_born_27 rfl rfl ?_
    refine r_iload_n X 1 dX6_born_28 rfl rfl ?_
    have hk8 : oc σ7 (a0) 5 := by rw [eσ7]; exact ho0
    refine r_putI (kf := 57) X hk8.1 rfl (by decide) rfl rfl (Or.inl q1298) dX6_born_29 rfl ?_
    refine r_let h (fun σ9 eσ9 h => ?_)
    refine r_aload_n X 0 dX6_born_32 rfl rfl ?_
    refine r_iload_n X 2 dX6_born_33 rfl rfl ?_
    have hk10 : oc σ9 (a0) 5 := by rw [eσ9]; exact hk8
    refine r_putI (kf := 58) X hk10.1 rfl (by decide) rfl rfl (Or.inl q1299) dX6_born_34 rfl ?_
    refine r_let h (fun σ11 eσ11 h => ?_)
    refine r_aload_n X 0 dX6_born_37 rfl rfl ?_
    refine r_iload_n X 3 dX6_born_38 rfl rfl ?_
    have hk12 : oc σ11 (a0) 5 := by rw [eσ11]; exact hk10
    refine r_putI (kf := 59) X hk12.1 rfl (by decide) rfl rfl (Or.inl q1300) dX6_born_39 rfl ?_
    refine r_let h (fun σ13 eσ13 h => ?_)
    refine r_aload_n X 0 dX6_born_42 rfl rfl ?_
    refine r_iload X 4 dX6_born_43 rfl ?_
    have hk14 : oc σ13 (a0) 5 := by rw [eσ13]; exact hk12
    refine r_putI (kf := 60) X hk14.1 rfl (by decide) rfl rfl (Or.inl q1301) dX6_born_45 rfl ?_
    refine r_let h (fun σ15 eσ15 h => ?_)
    refine r_iconst X dX6_born_48 ?_
    cases h
    exact r_zret X hr (by decide) dX6_born_49
theorem hy_X6_firstFrom : yX6_firstFrom.cls ≠ "java/lang/invoke/MethodHandle" ∧ yX6_firstFrom.cls ≠ "java/lang/invoke/VarHandle" ∧ (parseMethodDescriptor yX6_firstFrom.desc).map (fun d => d.parameters.length) = some 2 := by decide +kernel
set_option maxHeartbeats 4000000 in
theorem w_X6_firstFrom (l : Launch) (D : DD) (sz : Nat) {σ : St} {a0 : Nat} {x1 : Int} {x2 : Int} {w : Int} (h : f_X6_firstFrom σ a0 x1 x2 = some w) : Mt l yX6_firstFrom cX6_firstFrom 6 (some FieldType.int) ({ frames := 4, cells := 0, slots := 0, locals := 68 } : Room) D sz σ [.ref a0, iv (x1), iv (x2)] (.returned (some (iv w))) (σ) 0 0 := by
  refine Mt.of (by decide +kernel) (Nat.le_of_ble_eq_true rfl) ?_
  intro Γ X hr hnl hini hnoh
  have X : Cx Γ cX6_firstFrom "DayBoyModel" _ := X
  have hL : ∀ i, i < 6 → i < nLc Γ := fun i q => by rw [hnl]; exact q
  show V Γ σ 0 0 0 [(0, .ref (a0)), (1, iv (x1)), (2, iv (x2))] []
  unfold f_X6_firstFrom at h
  obtain ⟨ho0, h⟩ := cO_some h
  refine r_iload_n X 2 dX6_firstFrom_0 rfl rfl ?_
  refine r_istore_n X dX6_firstFrom_1 rfl (hL 3 (by decide)) (lv' := [(3, iv (x2)), (0, .ref (a0)), (1, iv (x1)), (2, iv (x2))]) rfl ?_
  have L2 : ∀ s : Int, lp (fun s => f_X6_firstFrom_b2 (σ) (a0) (x1) (x2) s) s = some w → V Γ (σ) 0 0 2 [(0, .ref (a0)), (1, iv (x1)), (2, iv (x2)), (3, iv (s))] [] := by
    refine lp_rule (P := fun s : Int => V Γ (σ) 0 0 2 [(0, .ref (a0)), (1, iv (x1)), (2, iv (x2)), (3, iv (s))] []) ?_
    intro s z1 h ihb1 ihe1
    obtain ⟨v3_1, es⟩ : ∃ q, q = s := ⟨s, rfl⟩
    subst es
    have h : f_X6_firstFrom_b2 (σ) (a0) (x1) (x2) v3_1 = some z1 := h
    unfold f_X6_firstFrom_b2 at h
    show V Γ σ 0 0 2 [(0, .ref (a0)), (1, iv (x1)), (2, iv (x2)), (3, iv (v3_1))] []
    refine r_iload_n X 3 dX6_firstFrom_2 rfl rfl ?_
    refine r_sipush X dX6_firstFrom_3 (by decide) ?_
    refine r_iload_n X 2 dX6_firstFrom_6 rfl rfl ?_
    refine r_iconst X dX6_firstFrom_7 ?_
    refine r_iadd X dX6_firstFrom_8 ?_
    obtain ⟨r2, h1, h⟩ := bd_some h
    refine r_cS (Wd := 1) X (fun l D sz => w_J3_min l D sz h1) q585 q1543 q115 q586 hy_J3_min rfl dX6_firstFrom_9 rfl rfl (Nat.le_of_ble_eq_true rfl) ⟨Nat.le_of_ble_eq_true rfl, Nat.le_of_ble_eq_true rfl⟩ ⟨Nat.le_of_ble_eq_true rfl, Nat.le_of_ble_eq_true rfl⟩ ?_
    refine r_icmp_gt (tgt := 100) X dX6_firstFrom_12 (by decide) h (fun c3 h => ?_) (fun c3 h => ?_)
    · have h := ex_some h ihe1
      refine r_iconst X dX6_firstFrom_100 ?_
      cases h
      exact r_iret X hr dX6_firstFrom_101
    · refine r_iconst X dX6_firstFrom_15 ?_
      refine r_istore X dX6_firstFrom_16 (hL 4 (by decide)) (lv' := [(4, iv (1)), (0, .ref (a0)), (1, iv (x1)), (2, iv (x2)), (3, iv (v3_1))]) rfl ?_
      have L18 : ∀ s : Int, lp (fun s => f_X6_firstFrom_b18 (σ) (a0) (x1) (x2) (v3_1) s) s = some z1 → V Γ (σ) 0 0 18 [(0, .ref (a0)), (1, iv (x1)), (2, iv (x2)), (3, iv (v3_1)), (4, iv (s))] [] := by
        refine lp_rule (P := fun s : Int => V Γ (σ) 0 0 18 [(0, .ref (a0)), (1, iv (x1)), (2, iv (x2)), (3, iv (v3_1)), (4, iv (s))] []) ?_
        intro s z2 h ihb2 ihe2
        obtain ⟨v4_2, es⟩ : ∃ q, q = s := ⟨s, rfl⟩
        subst es
        have h : f_X6_firstFrom_b18 (σ) (a0) (x1) (x2) (v3_1) v4_2 = some z2 := h
        unfold f_X6_firstFrom_b18 at h
        show V Γ σ 0 0 18 [(0, .ref (a0)), (1, iv (x1)), (2, iv (x2)), (3, iv (v3_1)), (4, iv (v4_2))] []
        refine r_iload X 4 dX6_firstFrom_18 rfl ?_
        refine r_bipush X dX6_firstFrom_20 (by decide) ?_
        refine r_icmp_gt (tgt := 94) X dX6_firstFrom_22 (by decide) h (fun c4 h => ?_) (fun c4 h => ?_)
        · have h := ex_some h ihe2
          refine r_iinc X 3 dX6_firstFrom_94 rfl (hL 3 (by decide)) (lv' := [(3, iv ((v3_1 + 1))), (0, .ref (a0)), (1, iv (x1)), (2, iv (x2)), (4, iv (v4_2))]) rfl ?_
          refine r_goto (tgt := 2) X dX6_firstFrom_97 (by decide) ?_
          exact V.sub [1, 2, 3, 0] rfl (ihb1 _ (Option.some.inj h).symm)
        · refine r_iconst X dX6_firstFrom_25 ?_
          refine r_istore X dX6_firstFrom_26 (hL 5 (by decide)) (lv' := [(5, iv (1)), (0, .ref (a0)), (1, iv (x1)), (2, iv (x2)), (3, iv (v3_1)), (4, iv (v4_2))]) rfl ?_
          have L28 : ∀ s : Int, lp (fun s => f_X6_firstFrom_b28 (σ) (a0) (x1) (x2) (v3_1) (v4_2) s) s = some z2 → V Γ (σ) 0 0 28 [(0, .ref (a0)), (1, iv (x1)), (2, iv (x2)), (3, iv (v3_1)), (4, iv (v4_2)), (5, iv (s))] [] := by
            refine lp_rule (P := fun s : Int => V Γ (σ) 0 0 28 [(0, .ref (a0)), (1, iv (x1)), (2, iv (x2)), (3, iv (v3_1)), (4, iv (v4_2)), (5, iv (s))] []) ?_
            intro s z3 h ihb3 ihe3
            obtain ⟨v5_3, es⟩ : ∃ q, q = s := ⟨s, rfl⟩
            subst es
            have h : f_X6_firstFrom_b28 (σ) (a0) (x1) (x2) (v3_1) (v4_2) v5_3 = some z3 := h
            unfold f_X6_firstFrom_b28 at h
            show V Γ σ 0 0 28 [(0, .ref (a0)), (1, iv (x1)), (2, iv (x2)), (3, iv (v3_1)), (4, iv (v4_2)), (5, iv (v5_3))] []
            refine r_iload X 5 dX6_firstFrom_28 rfl ?_
            refine r_bipush X dX6_firstFrom_30 (by decide) ?_
            refine r_icmp_gt (tgt := 88) X dX6_firstFrom_32 (by decide) h (fun c5 h => ?_) (fun c5 h => ?_)
            · have h := ex_some h ihe3
              refine r_iinc X 4 dX6_firstFrom_88 rfl (hL 4 (by decide)) (lv' := [(4, iv ((v4_2 + 1))), (0, .ref (a0)), (1, iv (x1)), (2, iv (x2)), (3, iv (v3_1)), (5, iv (v5_3))]) rfl ?_
              refine r_goto (tgt := 18) X dX6_firstFrom_91 (by decide) ?_
              exact V.sub [1, 2, 3, 4, 0] rfl (ihb2 _ (Option.some.inj h).symm)
            · refine r_iload_n X 3 dX6_firstFrom_35 rfl rfl ?_
              refine r_iload X 4 dX6_firstFrom_36 rfl ?_
              refine r_iload X 5 dX6_firstFrom_38 rfl ?_
              obtain ⟨r7, h6, h⟩ := bd_some h
              refine r_cS (Wd := 0) X (fun l D sz => w_X6_code l D sz h6) q1529 q1528 q109 q1530 hy_X6_code rfl dX6_firstFrom_40 rfl rfl (Nat.le_of_ble_eq_true rfl) ⟨Nat.le_of_ble_eq_true rfl, Nat.le_of_ble_eq_true rfl⟩ ⟨Nat.le_of_ble_eq_true rfl, Nat.le_of_ble_eq_true rfl⟩ ?_
              refine r_iload_n X 2 dX6_firstFrom_43 rfl rfl ?_
              refine r_aload_n X 0 dX6_firstFrom_44 rfl rfl ?_
              refine r_getI (kf := 59) X ho0.1 rfl (by decide) rfl (Or.inl q1300) dX6_firstFrom_45 ?_
              refine r_aload_n X 0 dX6_firstFrom_48 rfl rfl ?_
              refine r_getI (kf := 60) X ho0.1 rfl (by decide) rfl (Or.inl q1301) dX6_firstFrom_49 ?_
              obtain ⟨r9, h8, h⟩ := bd_some h
              refine r_cS (Wd := 1) X (fun l D sz => w_X6_code l D sz h8) q1529 q1528 q109 q1530 hy_X6_code rfl dX6_firstFrom_52 rfl rfl (Nat.le_of_ble_eq_true rfl) ⟨Nat.le_of_ble_eq_true rfl, Nat.le_of_ble_eq_true rfl⟩ ⟨Nat.le_of_ble_eq_true rfl, Nat.le_of_ble_eq_true rfl⟩ ?_
              refine r_icmp_lt (tgt := 82) X dX6_firstFrom_55 (by decide) h (fun c10 h => ?_) (fun c10 h => ?_)
              · refine r_iinc X 5 dX6_firstFrom_82 rfl (hL 5 (by decide)) (lv' := [(5, iv ((v5_3 + 1))), (0, .ref (a0)), (1, iv (x1)), (2, iv (x2)), (3, iv (v3_1)), (4, iv (v4_2))]) rfl ?_
                refine r_goto (tgt := 28) X dX6_firstFrom_85 (by decide) ?_
                exact V.sub [1, 2, 3, 4, 5, 0] rfl (ihb3 _ (Option.some.inj h).symm)
              · refine r_aload_n X 0 dX6_firstFrom_58 rfl rfl ?_
                refine r_iload_n X 1 dX6_firstFrom_59 rfl rfl ?_
                refine r_iload_n X 3 dX6_firstFrom_60 rfl rfl ?_
                refine r_iload X 4 dX6_firstFrom_61 rfl ?_
                refine r_iload X 5 dX6_firstFrom_63 rfl ?_
                obtain ⟨r12, h11, h⟩ := bd_some h
                refine r_cV (Wd := 0) X (fun l D sz => w_X6_isDate l D sz h11) ho0.1 rfl q1614 qs73 q1612 q109 q1615 hy_X6_isDate rfl dX6_firstFrom_65 rfl rfl (Nat.le_of_ble_eq_true rfl) ⟨Nat.le_of_ble_eq_true rfl, Nat.le_of_ble_eq_true rfl⟩ ⟨Nat.le_of_ble_eq_true rfl, Nat.le_of_ble_eq_true rfl⟩ ?_
                refine r_if_eq (tgt := 82) X dX6_firstFrom_68 (by decide) h (fun c13 h => ?_) (fun c13 h => ?_)
                · refine r_iinc X 5 dX6_firstFrom_82 rfl (hL 5 (by decide)) (lv' := [(5, iv ((v5_3 + 1))), (0, .ref (a0)), (1, iv (x1)), (2, iv (x2)), (3, iv (v3_1)), (4, iv (v4_2))]) rfl ?_
                  refine r_goto (tgt := 28) X dX6_firstFrom_85 (by decide) ?_
                  exact V.sub [1, 2, 3, 4, 5, 0] rfl (ihb3 _ (Option.some.inj h).symm)
                · have h := ex_some h ihe3
                  have h := ex_some h ihe2
                  have h := ex_some h ihe1
                  refine r_aload_n X 0 dX6_firstFrom_71 rfl rfl ?_
                  refine r_iload_n X 1 dX6_firstFrom_72 rfl rfl ?_
                  refine r_iload_n X 3 dX6_firstFrom_73 rfl rfl ?_
                  refine r_iload X 4 dX6_firstFrom_74 rfl ?_
                  refine r_iload X 5 dX6_firstFrom_76 rfl ?_
                  obtain ⟨r15, h14, h⟩ := bd_some h
                  refine r_cV (Wd := 0) X (fun l D sz => w_X6_dayOf l D sz h14) ho0.1 rfl q1626 qs76 q1624 q109 q1627 hy_X6_dayOf rfl dX6_firstFrom_78 rfl rfl (Nat.le_of_ble_eq_true rfl) ⟨Nat.le_of_ble_eq_true rfl, Nat.le_of_ble_eq_true rfl⟩ ⟨Nat.le_of_ble_eq_true rfl, Nat.le_of_ble_eq_true rfl⟩ ?_
                  cases h
                  exact r_iret X hr dX6_firstFrom_81
          exact V.sub [1, 2, 3, 4, 5, 0] rfl (L28 (1) h)
      exact V.sub [1, 2, 3, 4, 0] rfl (L18 (1) h)
  exact V.sub [1, 2, 3, 0] rfl (L2 (x2) h)
theorem hy_X6_age : yX6_age.cls ≠ "java/lang/invoke/MethodHandle" ∧ yX6_age.cls ≠ "java/lang/invoke/VarHandle" ∧ (parseMethodDescriptor yX6_age.desc).map (fun d => d.parameters.length) = some 4 := by decide +kernel
set_option maxHeartbeats 4000000 in
theorem w_X6_age (l : Launch) (D : DD) (sz : Nat) {σ : St} {a0 : Nat} {x1 : Int} {x2 : Int} {x3 : Int} {x4 : Int} {w : Int} (h : f_X6_age σ a0 x1 x2 x3 x4 = some w) : Mt l yX6_age cX6_age 8 (some FieldType.int) ({ frames := 5, cells := 0, slots := 0, locals := 85 } : Room) D sz σ [.ref a0, iv (x1), iv (x2), iv (x3), iv (x4)] (.returned (some (iv w))) (σ) 0 0 := by
  refine Mt.of (by decide +kernel) (Nat.le_of_ble_eq_true rfl) ?_
  intro Γ X hr hnl hini hnoh
  have X : Cx Γ cX6_age "DayBoyModel" _ := X
  have hL : ∀ i, i < 8 → i < nLc Γ := fun i q => by rw [hnl]; exact q
  show V Γ σ 0 0 0 [(0, .ref (a0)), (1, iv (x1)), (2, iv (x2)), (3, iv (x3)), (4, iv (x4))] []
  unfold f_X6_age at h
  obtain ⟨ho0, h⟩ := cO_some h
  refine r_aload_n X 0 dX6_age_0 rfl rfl ?_
  refine r_getI (kf := 56) X ho0.1 rfl (by decide) rfl (Or.inl q1297) dX6_age_1 ?_
  refine r_iconst X dX6_age_4 ?_
  refine r_icmp_eq (tgt := 44) X dX6_age_5 (by decide) h (fun c1 h => ?_) (fun c1 h => ?_)
  · refine r_iconst X dX6_age_44 ?_
    cases h
    exact r_iret X hr dX6_age_45
  · refine r_iload_n X 1 dX6_age_8 rfl rfl ?_
    refine r_aload_n X 0 dX6_age_9 rfl rfl ?_
    refine r_getI (kf := 57) X ho0.1 rfl (by decide) rfl (Or.inl q1298) dX6_age_10 ?_
    refine r_icmp_ne (tgt := 44) X dX6_age_13 (by decide) h (fun c2 h => ?_) (fun c2 h => ?_)
    · refine r_aload_n X 0 dX6_age_16 rfl rfl ?_
      refine r_iload_n X 1 dX6_age_17 rfl rfl ?_
      refine r_iload_n X 2 dX6_age_18 rfl rfl ?_
      refine r_iload_n X 3 dX6_age_19 rfl rfl ?_
      refine r_iload X 4 dX6_age_20 rfl ?_
      obtain ⟨r4, h3, h⟩ := bd_some h
      refine r_cV (Wd := 0) X (fun l D sz => w_X6_isDate l D sz h3) ho0.1 rfl q1614 qs73 q1612 q109 q1615 hy_X6_isDate rfl dX6_age_22 rfl rfl (Nat.le_of_ble_eq_true rfl) ⟨Nat.le_of_ble_eq_true rfl, Nat.le_of_ble_eq_true rfl⟩ ⟨Nat.le_of_ble_eq_true rfl, Nat.le_of_ble_eq_true rfl⟩ ?_
      refine r_if_eq (tgt := 44) X dX6_age_25 (by decide) h (fun c5 h => ?_) (fun c5 h => ?_)
      · refine r_iconst X dX6_age_44 ?_
        cases h
        exact r_iret X hr dX6_age_45
      · refine r_aload_n X 0 dX6_age_28 rfl rfl ?_
        refine r_iload_n X 1 dX6_age_29 rfl rfl ?_
        refine r_iload_n X 2 dX6_age_30 rfl rfl ?_
        refine r_iload_n X 3 dX6_age_31 rfl rfl ?_
        refine r_iload X 4 dX6_age_32 rfl ?_
        obtain ⟨r7, h6, h⟩ := bd_some h
        refine r_cV (Wd := 0) X (fun l D sz => w_X6_dayOf l D sz h6) ho0.1 rfl q1626 qs76 q1624 q109 q1627 hy_X6_dayOf rfl dX6_age_34 rfl rfl (Nat.le_of_ble_eq_true rfl) ⟨Nat.le_of_ble_eq_true rfl, Nat.le_of_ble_eq_true rfl⟩ ⟨Nat.le_of_ble_eq_true rfl, Nat.le_of_ble_eq_true rfl⟩ ?_
        refine r_aload_n X 0 dX6_age_37 rfl rfl ?_
        refine r_getI (kf := 56) X ho0.1 rfl (by decide) rfl (Or.inl q1297) dX6_age_38 ?_
        refine r_icmp_ge (tgt := 46) X dX6_age_41 (by decide) h (fun c8 h => ?_) (fun c8 h => ?_)
        · refine r_iconst X dX6_age_44 ?_
          cases h
          exact r_iret X hr dX6_age_45
        · refine r_iconst X dX6_age_46 ?_
          refine r_istore X dX6_age_47 (hL 5 (by decide)) (lv' := [(5, iv (0)), (0, .ref (a0)), (1, iv (x1)), (2, iv (x2)), (3, iv (x3)), (4, iv (x4))]) rfl ?_
          refine r_aload_n X 1 dX6_age_49 rfl rfl ?_
          refine r_getI (kf := 58) X ho0.1 rfl (by decide) rfl (Or.inl q1299) dX6_age_50 ?_
          refine r_iconst X dX6_age_53 ?_
          refine r_iadd X dX6_age_54 ?_
          refine r_istore X dX6_age_55 (hL 6 (by decide)) (lv' := [(6, iv (((gI (σ) (a0) 58 0) + 1))), (5, iv (0)), (0, .ref (a0)), (1, iv (x1)), (2, iv (x2)), (3, iv (x3)), (4, iv (x4))]) rfl ?_
          have L57 : ∀ s : Int × Int, lp (fun s => f_X6_age_b57 (σ) (a0) (x1) (x2) (x3) (x4) s.1 s.2) s = some w → V Γ (σ) 0 0 57 [(0, .ref (a0)), (1, iv (x1)), (2, iv (x2)), (3, iv (x3)), (4, iv (x4)), (5, iv (s.1)), (6, iv (s.2))] [] := by
            refine lp_rule (P := fun s : Int × Int => V Γ (σ) 0 0 57 [(0, .ref (a0)), (1, iv (x1)), (2, iv (x2)), (3, iv (x3)), (4, iv (x4)), (5, iv (s.1)), (6, iv (s.2))] []) ?_
            intro s z1 h ihb1 ihe1
            obtain ⟨v5_1, v6_1⟩ := s
            have h : f_X6_age_b57 (σ) (a0) (x1) (x2) (x3) (x4) v5_1 v6_1 = some z1 := h
            unfold f_X6_age_b57 at h
            show V Γ σ 0 0 57 [(0, .ref (a0)), (1, iv (x1)), (2, iv (x2)), (3, iv (x3)), (4, iv (x4)), (5, iv (v5_1)), (6, iv (v6_1))] []
            refine r_iload X 6 dX6_age_57 rfl ?_
            refine r_iload_n X 2 dX6_age_59 rfl rfl ?_
            refine r_icmp_gt (tgt := 108) X dX6_age_60 (by decide) h (fun c9 h => ?_) (fun c9 h => ?_)
            · have h := ex_some h ihe1
              refine r_iload X 5 dX6_age_108 rfl ?_
              cases h
              exact r_iret X hr dX6_age_110
            · refine r_aload_n X 0 dX6_age_63 rfl rfl ?_
              refine r_iload_n X 1 dX6_age_64 rfl rfl ?_
              refine r_iload X 6 dX6_age_65 rfl ?_
              obtain ⟨r11, h10, h⟩ := bd_some h
              refine r_cV (Wd := 0) X (fun l D sz => w_X6_firstFrom l D sz h10) ho0.1 rfl q1816 qs94 q1814 q109 q1817 hy_X6_firstFrom rfl dX6_age_67 rfl rfl (Nat.le_of_ble_eq_true rfl) ⟨Nat.le_of_ble_eq_true rfl, Nat.le_of_ble_eq_true rfl⟩ ⟨Nat.le_of_ble_eq_true rfl, Nat.le_of_ble_eq_true rfl⟩ ?_
              refine r_istore X dX6_age_70 (hL 7 (by decide)) (lv' := [(7, iv (r11)), (0, .ref (a0)), (1, iv (x1)), (2, iv (x2)), (3, iv (x3)), (4, iv (x4)), (5, iv (v5_1)), (6, iv (v6_1))]) rfl ?_
              refine r_iload X 6 dX6_age_72 rfl ?_
              refine r_iload X 0 dX6_age_74 rfl ?_
              refine r_iconst X dX6_age_76 ?_
              refine r_icmp_eq (tgt := 98) X dX6_age_77 (by decide) h (fun c12 h => ?_) (fun c12 h => ?_)
              · refine r_iconst X dX6_age_98 ?_
                refine r_iadd X dX6_age_99 ?_
                refine r_istore X dX6_age_100 (hL 5 (by decide)) (lv' := [(5, iv ((v5_1 + 0))), (7, iv (r11)), (0, .ref (a0)), (1, iv (x1)), (2, iv (x2)), (3, iv (x3)), (4, iv (x4)), (6, iv (v6_1))]) rfl ?_
                refine r_iinc X 7 dX6_age_102 rfl (hL 6 (by decide)) (lv' := [(6, iv ((v6_1 + 1))), (5, iv ((v5_1 + 0))), (7, iv (r11)), (0, .ref (a0)), (1, iv (x1)), (2, iv (x2)), (3, iv (x3)), (4, iv (x4))]) rfl ?_
                refine r_goto (tgt := 57) X dX6_age_105 (by decide) ?_
                exact V.sub [3, 4, 5, 6, 7, 1, 0] rfl (ihb1 _ (Option.some.inj h).symm)
              · refine r_iload X 0 dX6_age_80 rfl ?_
                refine r_aload_n X 1 dX6_age_82 rfl rfl ?_
                refine r_iload_n X 2 dX6_age_83 rfl rfl ?_
                refine r_iload_n X 3 dX6_age_84 rfl rfl ?_
                refine r_iload_n X 4 dX6_age_85 rfl rfl ?_
                refine r_iload X 5 dX6_age_86 rfl ?_
                obtain ⟨r14, h13, h⟩ := bd_some h
                refine r_cV (Wd := 2) X (fun l D sz => w_X6_dayOf l D sz h13) ho0.1 rfl q1626 qs76 q1624 q109 q1627 hy_X6_dayOf rfl dX6_age_88 rfl rfl (Nat.le_of_ble_eq_true rfl) ⟨Nat.le_of_ble_eq_true rfl, Nat.le_of_ble_eq_true rfl⟩ ⟨Nat.le_of_ble_eq_true rfl, Nat.le_of_ble_eq_true rfl⟩ ?_
                refine r_icmp_gt (tgt := 98) X dX6_age_91 (by decide) h (fun c15 h => ?_) (fun c15 h => ?_)
                · refine r_iconst X dX6_age_98 ?_
                  refine r_iadd X dX6_age_99 ?_
                  refine r_istore X dX6_age_100 (hL 5 (by decide)) (lv' := [(5, iv ((v5_1 + 0))), (7, iv (r11)), (0, .ref (a0)), (1, iv (x1)), (2, iv (x2)), (3, iv (x3)), (4, iv (x4)), (6, iv (v6_1))]) rfl ?_
                  refine r_iinc X 7 dX6_age_102 rfl (hL 6 (by decide)) (lv' := [(6, iv ((v6_1 + 1))), (5, iv ((v5_1 + 0))), (7, iv (r11)), (0, .ref (a0)), (1, iv (x1)), (2, iv (x2)), (3, iv (x3)), (4, iv (x4))]) rfl ?_
                  refine r_goto (tgt := 57) X dX6_age_105 (by decide) ?_
                  exact V.sub [3, 4, 5, 6, 7, 1, 0] rfl (ihb1 _ (Option.some.inj h).symm)
                · refine r_iconst X dX6_age_94 ?_
                  refine r_goto (tgt := 99) X dX6_age_95 (by decide) ?_
                  refine r_iadd X dX6_age_99 ?_
                  refine r_istore X dX6_age_100 (hL 5 (by decide)) (lv' := [(5, iv ((v5_1 + 1))), (7, iv (r11)), (0, .ref (a0)), (1, iv (x1)), (2, iv (x2)), (3, iv (x3)), (4, iv (x4)), (6, iv (v6_1))]) rfl ?_
                  refine r_iinc X 7 dX6_age_102 rfl (hL 6 (by decide)) (lv' := [(6, iv ((v6_1 + 1))), (5, iv ((v5_1 + 1))), (7, iv (r11)), (0, .ref (a0)), (1, iv (x1)), (2, iv (x2)), (3, iv (x3)), (4, iv (x4))]) rfl ?_
                  refine r_goto (tgt := 57) X dX6_age_105 (by decide) ?_
                  exact V.sub [3, 4, 5, 6, 7, 1, 0] rfl (ihb1 _ (Option.some.inj h).symm)
          exact V.sub [2, 3, 4, 5, 6, 1, 0] rfl (L57 (0, ((gI (σ) (a0) 58 0) + 1)) h)
    · refine r_iconst X dX6_age_44 ?_
      cases h
      exact r_iret X hr dX6_age_45
theorem hy_X6_event : yX6_event.cls ≠ "java/lang/invoke/MethodHandle" ∧ yX6_event.cls ≠ "java/lang/invoke/VarHandle" ∧ (parseMethodDescriptor yX6_event.desc).map (fun d => d.parameters.length) = some 5 := by decide +kernel
set_option maxHeartbeats 4000000 in
theorem w_X6_event (l : Launch) (D : DD) (sz : Nat) {σ : St} {a0 : Nat} {x1 : Int} {x2 : Int} {x3 : Int} {x4 : Int} {x5 : Int} {w : Int × St} (h : f_X6_event σ a0 x1 x2 x3 x4 x5 = some w) : Mt l yX6_event cX6_event 6 (some FieldType.int) ({ frames := 4, cells := 0, slots := 0, locals := 70 } : Room) D sz σ [.ref a0, iv (x1), iv (x2), iv (x3), iv (x4), iv (x5)] (.returned (some (iv w.1))) (w.2) 0 0 := by
  refine Mt.of (by decide +kernel) (Nat.le_of_ble_eq_true rfl) ?_
  intro Γ X hr hnl hini hnoh
  have X : Cx Γ cX6_event "DayBoyModel" _ := X
  have hL : ∀ i, i < 6 → i < nLc Γ := fun i q => by rw [hnl]; exact q
  show V Γ σ 0 0 0 [(0, .ref (a0)), (1, iv (x1)), (2, iv (x2)), (3, iv (x3)), (4, iv (x4)), (5, iv (x5))] []
  unfold f_X6_event at h
  obtain ⟨ho0, h⟩ := cO_some h
  refine r_aload_n X 0 dX6_event_0 rfl rfl ?_
  refine r_iload_n X 1 dX6_event_1 rfl rfl ?_
  refine r_iload_n X 2 dX6_event_2 rfl rfl ?_
  refine r_iload_n X 3 dX6_event_3 rfl rfl ?_
  refine r_iload X 4 dX6_event_4 rfl ?_
  obtain ⟨r2, h1, h⟩ := bd_some h
  refine r_cV (Wd := 0) X (fun l D sz => w_X6_isDate l D sz h1) ho0.1 rfl q1614 qs73 q1612 q109 q1615 hy_X6_isDate rfl dX6_event_6 rfl rfl (Nat.le_of_ble_eq_true rfl) ⟨Nat.le_of_ble_eq_true rfl, Nat.le_of_ble_eq_true rfl⟩ ⟨Nat.le_of_ble_eq_true rfl, Nat.le_of_ble_eq_true rfl⟩ ?_
  refine r_if_eq (tgt := 31) X dX6_event_9 (by decide) h (fun c3 h => ?_) (fun c3 h => ?_)
  · refine r_iconst X dX6_event_31 ?_
    cases h
    exact r_iret X hr dX6_event_32
  · refine r_iload X 5 dX6_event_12 rfl ?_
    refine r_iconst X dX6_event_14 ?_
    refine r_iconst X dX6_event_15 ?_
    obtain ⟨r5, h4, h⟩ := bd_some h
    refine r_cS (Wd := 0) X (fun l D sz => w_X6_in l D sz h4) q1502 q1501 q109 q1503 hy_X6_in rfl dX6_event_16 rfl rfl (Nat.le_of_ble_eq_true rfl) ⟨Nat.le_of_ble_eq_true rfl, Nat.le_of_ble_eq_true rfl⟩ ⟨Nat.le_of_ble_eq_true rfl, Nat.le_of_ble_eq_true rfl⟩ ?_
    refine r_if_eq (tgt := 31) X dX6_event_19 (by decide) h (fun c6 h => ?_) (fun c6 h => ?_)
    · refine r_iconst X dX6_event_31 ?_
      cases h
      exact r_iret X hr dX6_event_32
    · refine r_aload_n X 0 dX6_event_22 rfl rfl ?_
      refine r_getI (kf := 63) X ho0.1 rfl (by decide) rfl (Or.inl q1304) dX6_event_23 ?_
      refine r_bipush X dX6_event_26 (by decide) ?_
      refine r_icmp_ne (tgt := 33) X dX6_event_28 (by decide) h (fun c7 h => ?_) (fun c7 h => ?_)
      · refine r_iconst X dX6_event_31 ?_
        cases h
        exact r_iret X hr dX6_event_32
      · refine r_aload_n X 0 dX6_event_33 rfl rfl ?_
        refine r_getA (kf := 61) X ho0.1 rfl (by decide) (by decide) (Or.inl q1302) dX6_event_34 ?_
        refine r_aload_n X 0 dX6_event_37 rfl rfl ?_
        refine r_getI (kf := 63) X ho0.1 rfl (by decide) rfl (Or.inl q1304) dX6_event_38 ?_
        refine r_aload_n X 0 dX6_event_41 rfl rfl ?_
        refine r_iload_n X 1 dX6_event_42 rfl rfl ?_
        refine r_iload_n X 2 dX6_event_43 rfl rfl ?_
        refine r_iload_n X 3 dX6_event_44 rfl rfl ?_
        refine r_iload X 4 dX6_event_45 rfl ?_
        obtain ⟨r9, h8, h⟩ := bd_some h
        refine r_cV (Wd := 2) X (fun l D sz => w_X6_dayOf l D sz h8) ho0.1 rfl q1626 qs76 q1624 q109 q1627 hy_X6_dayOf rfl dX6_event_47 rfl rfl (by simp only [List.map_cons, List.map_nil, cat_rf, cat_iv, cat_jv, cat_ref, List.sum_cons, List.sum_nil]; decide) ⟨Nat.le_of_ble_eq_true rfl, Nat.le_of_ble_eq_true rfl⟩ ⟨Nat.le_of_ble_eq_true rfl, Nat.le_of_ble_eq_true rfl⟩ ?_
        refine r_iast X ho0.1 (ho0.2 61 (by decide)) rfl rfl rfl (by decide) dX6_event_50 h (fun h => ?_)
        refine r_let h (fun σ10 eσ10 h => ?_)
        refine r_aload_n X 0 dX6_event_51 rfl rfl ?_
        have hk11 : oc σ10 (a0) 5 := by rw [eσ10]; exact ho0
        refine r_getA (kf := 62) X hk11.1 rfl (by decide) (by decide) (Or.inl q1303) dX6_event_52 ?_
        refine r_aload_n X 0 dX6_event_55 rfl rfl ?_
        refine r_getI (kf := 63) X hk11.1 rfl (by decide) rfl (Or.inl q1304) dX6_event_56 ?_
        refine r_iload X 5 dX6_event_59 rfl ?_
        refine r_iast X hk11.1 (hk11.2 62 (by decide)) rfl rfl rfl (by decide) dX6_event_61 h (fun h => ?_)
        refine r_let h (fun σ12 eσ12 h => ?_)
        refine r_aload_n X 0 dX6_event_62 rfl rfl ?_
        refine r_dup X dX6_event_63 rfl ?_
        have hk13 : oc σ12 (a0) 5 := by rw [eσ12]; exact hk11
        refine r_getI (kf := 63) X hk13.1 rfl (by decide) rfl (Or.inl q1304) dX6_event_64 ?_
        refine r_iconst X dX6_event_67 ?_
        refine r_iadd X dX6_event_68 ?_
        refine r_putI (kf := 63) X hk13.1 rfl (by decide) rfl rfl (Or.inl q1304) dX6_event_69 rfl ?_
        refine r_let h (fun σ14 eσ14 h => ?_)
        refine r_aload_n X 0 dX6_event_72 rfl rfl ?_
        have hk15 : oc σ14 (a0) 5 := by rw [eσ14]; exact hk13
        refine r_getI (kf := 63) X hk15.1 rfl (by decide) rfl (Or.inl q1304) dX6_event_73 ?_
        cases h
        exact r_iret X hr dX6_event_76
theorem hy_X6_held : yX6_held.cls ≠ "java/lang/invoke/MethodHandle" ∧ yX6_held.cls ≠ "java/lang/invoke/VarHandle" ∧ (parseMethodDescriptor yX6_held.desc).map (fun d => d.parameters.length) = some 4 := by decide +kernel
set_option maxHeartbeats 4000000 in
theorem w_X6_held (l : Launch) (D : DD) (sz : Nat) {σ : St} {a0 : Nat} {x1 : Int} {x2 : Int} {x3 : Int} {x4 : Int} {w : Int} (h : f_X6_held σ a0 x1 x2 x3 x4 = some w) : Mt l yX6_held cX6_held 7 (some FieldType.int) ({ frames := 4, cells := 0, slots := 0, locals := 70 } : Room) D sz σ [.ref a0, iv (x1), iv (x2), iv (x3), iv (x4)] (.returned (some (iv w))) (σ) 0 0 := by
  refine Mt.of (by decide +kernel) (Nat.le_of_ble_eq_true rfl) ?_
  intro Γ X hr hnl hini hnoh
  have X : Cx Γ cX6_held "DayBoyModel" _ := X
  have hL : ∀ i, i < 7 → i < nLc Γ := fun i q => by rw [hnl]; exact q
  show V Γ σ 0 0 0 [(0, .ref (a0)), (1, iv (x1)), (2, iv (x2)), (3, iv (x3)), (4, iv (x4))] []
  unfold f_X6_held at h
  obtain ⟨ho0, h⟩ := cO_some h
  refine r_aload_n X 0 dX6_held_0 rfl rfl ?_
  refine r_iload_n X 1 dX6_held_1 rfl rfl ?_
  refine r_iload_n X 2 dX6_held_2 rfl rfl ?_
  refine r_iload_n X 3 dX6_held_3 rfl rfl ?_
  refine r_iload X 4 dX6_held_4 rfl ?_
  obtain ⟨r2, h1, h⟩ := bd_some h
  refine r_cV (Wd := 0) X (fun l D sz => w_X6_isDate l D sz h1) ho0.1 rfl q1614 qs73 q1612 q109 q1615 hy_X6_isDate rfl dX6_held_6 rfl rfl (Nat.le_of_ble_eq_true rfl) ⟨Nat.le_of_ble_eq_true rfl, Nat.le_of_ble_eq_true rfl⟩ ⟨Nat.le_of_ble_eq_true rfl, Nat.le_of_ble_eq_true rfl⟩ ?_
  refine r_if_ne (tgt := 14) X dX6_held_9 (by decide) h (fun c3 h => ?_) (fun c3 h => ?_)
  · refine r_iconst X dX6_held_12 ?_
    cases h
    exact r_iret X hr dX6_held_13
  · refine r_iconst X dX6_held_14 ?_
    refine r_istore X dX6_held_15 (hL 5 (by decide)) (lv' := [(5, iv (0)), (0, .ref (a0)), (1, iv (x1)), (2, iv (x2)), (3, iv (x3)), (4, iv (x4))]) rfl ?_
    refine r_iconst X dX6_held_17 ?_
    refine r_istore X dX6_held_18 (hL 6 (by decide)) (lv' := [(6, iv (0)), (5, iv (0)), (0, .ref (a0)), (1, iv (x1)), (2, iv (x2)), (3, iv (x3)), (4, iv (x4))]) rfl ?_
    have L20 : ∀ s : Int × Int, lp (fun s => f_X6_held_b20 (σ) (a0) (x1) (x2) (x3) (x4) s.1 s.2) s = some w → V Γ (σ) 0 0 20 [(0, .ref (a0)), (1, iv (x1)), (2, iv (x2)), (3, iv (x3)), (4, iv (x4)), (5, iv (s.1)), (6, iv (s.2))] [] := by
      refine lp_rule (P := fun s : Int × Int => V Γ (σ) 0 0 20 [(0, .ref (a0)), (1, iv (x1)), (2, iv (x2)), (3, iv (x3)), (4, iv (x4)), (5, iv (s.1)), (6, iv (s.2))] []) ?_
      intro s z1 h ihb1 ihe1
      obtain ⟨v5_1, v6_1⟩ := s
      have h : f_X6_held_b20 (σ) (a0) (x1) (x2) (x3) (x4) v5_1 v6_1 = some z1 := h
      unfold f_X6_held_b20 at h
      show V Γ σ 0 0 20 [(0, .ref (a0)), (1, iv (x1)), (2, iv (x2)), (3, iv (x3)), (4, iv (x4)), (5, iv (v5_1)), (6, iv (v6_1))] []
      refine r_iload X 6 dX6_held_20 rfl ?_
      refine r_aload_n X 0 dX6_held_22 rfl rfl ?_
      refine r_getI (kf := 63) X ho0.1 rfl (by decide) rfl (Or.inl q1304) dX6_held_23 ?_
      refine r_icmp_ge (tgt := 72) X dX6_held_26 (by decide) h (fun c4 h => ?_) (fun c4 h => ?_)
      · refine r_iload X 5 dX6_held_29 rfl ?_
        refine r_aload_n X 0 dX6_held_31 rfl rfl ?_
        refine r_getA (kf := 61) X ho0.1 rfl (by decide) (by decide) (Or.inl q1302) dX6_held_32 ?_
        refine r_iload X 6 dX6_held_35 rfl ?_
        refine r_iald X ho0.1 (ho0.2 61 (by decide)) rfl rfl rfl (by decide) dX6_held_37 h (fun h => ?_)
        refine r_aload_n X 0 dX6_held_38 rfl rfl ?_
        refine r_iload_n X 1 dX6_held_39 rfl rfl ?_
        refine r_iload_n X 2 dX6_held_40 rfl rfl ?_
        refine r_iload_n X 3 dX6_held_41 rfl rfl ?_
        refine r_iload X 4 dX6_held_42 rfl ?_
        obtain ⟨r6, h5, h⟩ := bd_some h
        refine r_cV (Wd := 2) X (fun l D sz => w_X6_dayOf l D sz h5) ho0.1 rfl q1626 qs76 q1624 q109 q1627 hy_X6_dayOf rfl dX6_held_44 rfl rfl (Nat.le_of_ble_eq_true rfl) ⟨Nat.le_of_ble_eq_true rfl, Nat.le_of_ble_eq_true rfl⟩ ⟨Nat.le_of_ble_eq_true rfl, Nat.le_of_ble_eq_true rfl⟩ ?_
        refine r_icmp_ne (tgt := 62) X dX6_held_47 (by decide) h (fun c7 h => ?_) (fun c7 h => ?_)
        · refine r_iconst X dX6_held_50 ?_
          refine r_aload_n X 0 dX6_held_51 rfl rfl ?_
          refine r_getA (kf := 62) X ho0.1 rfl (by decide) (by decide) (Or.inl q1303) dX6_held_52 ?_
          refine r_iload X 6 dX6_held_55 rfl ?_
          refine r_iald X ho0.1 (ho0.2 62 (by decide)) rfl rfl rfl (by decide) dX6_held_57 h (fun h => ?_)
          refine r_ishl X dX6_held_58 ?_
          refine r_goto (tgt := 63) X dX6_held_59 (by decide) ?_
          refine r_ior X dX6_held_63 ?_
          refine r_istore X dX6_held_64 (hL 5 (by decide)) (lv' := [(5, iv ((bOr (v5_1) ((bShl (1) ((gI (σ) (a0) 62 (v6_1)))))))), (0, .ref (a0)), (1, iv (x1)), (2, iv (x2)), (3, iv (x3)), (4, iv (x4)), (6, iv (v6_1))]) rfl ?_
          refine r_iinc X 6 dX6_held_66 rfl (hL 6 (by decide)) (lv' := [(6, iv ((v6_1 + 1))), (5, iv ((bOr (v5_1) ((bShl (1) ((gI (σ) (a0) 62 (v6_1)))))))), (0, .ref (a0)), (1, iv (x1)), (2, iv (x2)), (3, iv (x3)), (4, iv (x4))]) rfl ?_
          refine r_goto (tgt := 20) X dX6_held_69 (by decide) ?_
          exact V.sub [2, 3, 4, 5, 6, 1, 0] rfl (ihb1 _ (Option.some.inj h).symm)
        · refine r_iconst X dX6_held_62 ?_
          refine r_ior X dX6_held_63 ?_
          refine r_istore X dX6_held_64 (hL 5 (by decide)) (lv' := [(5, iv ((bOr (v5_1) (0)))), (0, .ref (a0)), (1, iv (x1)), (2, iv (x2)), (3, iv (x3)), (4, iv (x4)), (6, iv (v6_1))]) rfl ?_
          refine r_iinc X 6 dX6_held_66 rfl (hL 6 (by decide)) (lv' := [(6, iv ((v6_1 + 1))), (5, iv ((bOr (v5_1) (0)))), (0, .ref (a0)), (1, iv (x1)), (2, iv (x2)), (3, iv (x3)), (4, iv (x4))]) rfl ?_
          refine r_goto (tgt := 20) X dX6_held_69 (by decide) ?_
          exact V.sub [2, 3, 4, 5, 6, 1, 0] rfl (ihb1 _ (Option.some.inj h).symm)
      · have h := ex_some h ihe1
        refine r_iload X 5 dX6_held_72 rfl ?_
        cases h
        exact r_iret X hr dX6_held_74
    exact V.sub [2, 3, 4, 5, 6, 1, 0] rfl (L20 (0, 0) h)
theorem hy_X6_hasEvent : yX6_hasEvent.cls ≠ "java/lang/invoke/MethodHandle" ∧ yX6_hasEvent.cls ≠ "java/lang/invoke/VarHandle" ∧ (parseMethodDescriptor yX6_hasEvent.desc).map (fun d => d.parameters.length) = some 2 := by decide +kernel
set_option maxHeartbeats 4000000 in
theorem w_X6_hasEvent (l : Launch) (D : DD) (sz : Nat) {σ : St} {a0 : Nat} {x1 : Int} {x2 : Int} {w : Int} (h : f_X6_hasEvent σ a0 x1 x2 = some w) : Mt l yX6_hasEvent cX6_hasEvent 4 (some FieldType.boolean) ({ frames := 0, cells := 0, slots := 0, locals := 0 } : Room) D sz σ [.ref a0, iv (x1), iv (x2)] (.returned (some (iv w))) (σ) 0 0 := by
  refine Mt.of (by decide +kernel) (Nat.le_of_ble_eq_true rfl) ?_
  intro Γ X hr hnl hini hnoh
  have X : Cx Γ cX6_hasEvent "DayBoyModel" _ := X
  have hL : ∀ i, i < 4 → i < nLc Γ := fun i q => by rw [hnl]; exact q
  show V Γ σ 0 0 0 [(0, .ref (a0)), (1, iv (x1)), (2, iv (x2))] []
  unfold f_X6_hasEvent at h
  obtain ⟨ho0, h⟩ := cO_some h
  refine r_iconst X dX6_hasEvent_0 ?_
  refine r_istore_n X dX6_hasEvent_1 rfl (hL 3 (by decide)) (lv' := [(3, iv (0)), (0, .ref (a0)), (1, iv (x1)), (2, iv (x2))]) rfl ?_
  have L2 : ∀ s : Int, lp (fun s => f_X6_hasEvent_b2 (σ) (a0) (x1) (x2) s) s = some w → V Γ (σ) 0 0 2 [(0, .ref (a0)), (1, iv (x1)), (2, iv (x2)), (3, iv (s))] [] := by
    refine lp_rule (P := fun s : Int => V Γ (σ) 0 0 2 [(0, .ref (a0)), (1, iv (x1)), (2, iv (x2)), (3, iv (s))] []) ?_
    intro s z1 h ihb1 ihe1
    obtain ⟨v3_1, es⟩ : ∃ q, q = s := ⟨s, rfl⟩
    subst es
    have h : f_X6_hasEvent_b2 (σ) (a0) (x1) (x2) v3_1 = some z1 := h
    unfold f_X6_hasEvent_b2 at h
    show V Γ σ 0 0 2 [(0, .ref (a0)), (1, iv (x1)), (2, iv (x2)), (3, iv (v3_1))] []
    refine r_iload_n X 3 dX6_hasEvent_2 rfl rfl ?_
    refine r_aload_n X 0 dX6_hasEvent_3 rfl rfl ?_
    refine r_getI (kf := 63) X ho0.1 rfl (by decide) rfl (Or.inl q1304) dX6_hasEvent_4 ?_
    refine r_icmp_ge (tgt := 38) X dX6_hasEvent_7 (by decide) h (fun c1 h => ?_) (fun c1 h => ?_)
    · refine r_aload_n X 0 dX6_hasEvent_10 rfl rfl ?_
      refine r_getA (kf := 61) X ho0.1 rfl (by decide) (by decide) (Or.inl q1302) dX6_hasEvent_11 ?_
      refine r_iload_n X 3 dX6_hasEvent_14 rfl rfl ?_
      refine r_iald X ho0.1 (ho0.2 61 (by decide)) rfl rfl rfl (by decide) dX6_hasEvent_15 h (fun h => ?_)
      refine r_iload_n X 1 dX6_hasEvent_16 rfl rfl ?_
      refine r_icmp_ne (tgt := 32) X dX6_hasEvent_17 (by decide) h (fun c2 h => ?_) (fun c2 h => ?_)
      · refine r_aload_n X 0 dX6_hasEvent_20 rfl rfl ?_
        refine r_getA (kf := 62) X ho0.1 rfl (by decide) (by decide) (Or.inl q1303) dX6_hasEvent_21 ?_
        refine r_iload_n X 3 dX6_hasEvent_24 rfl rfl ?_
        refine r_iald X ho0.1 (ho0.2 62 (by decide)) rfl rfl rfl (by decide) dX6_hasEvent_25 h (fun h => ?_)
        refine r_iload_n X 2 dX6_hasEvent_26 rfl rfl ?_
        refine r_icmp_ne (tgt := 32) X dX6_hasEvent_27 (by decide) h (fun c3 h => ?_) (fun c3 h => ?_)
        · have h := ex_some h ihe1
          refine r_iconst X dX6_hasEvent_30 ?_
          cases h
          exact r_zret X hr (by decide) dX6_hasEvent_31
        · refine r_iinc X 3 dX6_hasEvent_32 rfl (hL 3 (by decide)) (lv' := [(3, iv ((v3_1 + 1))), (0, .ref (a0)), (1, iv (x1)), (2, iv (x2))]) rfl ?_
          refine r_goto (tgt := 2) X dX6_hasEvent_35 (by decide) ?_
          exact V.sub [1, 2, 3, 0] rfl (ihb1 _ (Option.some.inj h).symm)
      · refine r_iinc X 3 dX6_hasEvent_32 rfl (hL 3 (by decide)) (lv' := [(3, iv ((v3_1 + 1))), (0, .ref (a0)), (1, iv (x1)), (2, iv (x2))]) rfl ?_
        refine r_goto (tgt := 2) X dX6_hasEvent_35 (by decide) ?_
        exact V.sub [1, 2, 3, 0] rfl (ihb1 _ (Option.some.inj h).symm)
    · have h := ex_some h ihe1
      refine r_iconst X dX6_hasEvent_38 ?_
      cases h
      exact r_zret X hr (by decide) dX6_hasEvent_39
  exact V.sub [1, 2, 3, 0] rfl (L2 (0) h)
theorem hy_X6_spell : yX6_spell.cls ≠ "java/lang/invoke/MethodHandle" ∧ yX6_spell.cls ≠ "java/lang/invoke/VarHandle" ∧ (parseMethodDescriptor yX6_spell.desc).map (fun d => d.parameters.length) = some 1 := by decide +kernel
set_option maxHeartbeats 4000000 in
theorem w_X6_spell (l : Launch) (D : DD) (sz : Nat) {σ : St} {a0 : Nat} {x1 : Int} {w : Int} (h : f_X6_spell σ a0 x1 = some w) : Mt l yX6_spell cX6_spell 5 (some FieldType.int) ({ frames := 1, cells := 0, slots := 0, locals := 15 } : Room) D sz σ [.ref a0, iv (x1)] (.returned (some (iv w))) (σ) 0 0 := by
  refine Mt.of (by decide +kernel) (Nat.le_of_ble_eq_true rfl) ?_
  intro Γ X hr hnl hini hnoh
  have X : Cx Γ cX6_spell "DayBoyModel" _ := X
  have hL : ∀ i, i < 5 → i < nLc Γ := fun i q => by rw [hnl]; exact q
  show V Γ σ 0 0 0 [(0, .ref (a0)), (1, iv (x1))] []
  unfold f_X6_spell at h
  obtain ⟨ho0, h⟩ := cO_some h
  refine r_iload_n X 1 dX6_spell_0 rfl rfl ?_
  refine r_iconst X dX6_spell_1 ?_
  refine r_iconst X dX6_spell_2 ?_
  obtain ⟨r2, h1, h⟩ := bd_some h
  refine r_cS (Wd := 0) X (fun l D sz => w_X6_in l D sz h1) q1502 q1501 q109 q1503 hy_X6_in rfl dX6_spell_3 rfl rfl (Nat.le_of_ble_eq_true rfl) ⟨Nat.le_of_ble_eq_true rfl, Nat.le_of_ble_eq_true rfl⟩ ⟨Nat.le_of_ble_eq_true rfl, Nat.le_of_ble_eq_true rfl⟩ ?_
  refine r_if_ne (tgt := 11) X dX6_spell_6 (by decide) h (fun c3 h => ?_) (fun c3 h => ?_)
  · refine r_iconst X dX6_spell_9 ?_
    cases h
    exact r_iret X hr dX6_spell_10
  · refine r_iconst X dX6_spell_11 ?_
    refine r_istore_n X dX6_spell_12 rfl (hL 2 (by decide)) (lv' := [(2, iv (0)), (0, .ref (a0)), (1, iv (x1))]) rfl ?_
    refine r_iconst X dX6_spell_13 ?_
    refine r_istore_n X dX6_spell_14 rfl (hL 3 (by decide)) (lv' := [(3, iv (0)), (2, iv (0)), (0, .ref (a0)), (1, iv (x1))]) rfl ?_
    have L15 : ∀ s : Int × Int, lp (fun s => f_X6_spell_b15 (σ) (a0) (x1) s.1 s.2) s = some w → V Γ (σ) 0 0 15 [(0, .ref (a0)), (1, iv (x1)), (2, iv (s.1)), (3, iv (s.2))] [] := by
      refine lp_rule (P := fun s : Int × Int => V Γ (σ) 0 0 15 [(0, .ref (a0)), (1, iv (x1)), (2, iv (s.1)), (3, iv (s.2))] []) ?_
      intro s z1 h ihb1 ihe1
      obtain ⟨v2_1, v3_1⟩ := s
      have h : f_X6_spell_b15 (σ) (a0) (x1) v2_1 v3_1 = some z1 := h
      unfold f_X6_spell_b15 at h
      show V Γ σ 0 0 15 [(0, .ref (a0)), (1, iv (x1)), (2, iv (v2_1)), (3, iv (v3_1))] []
      have J59 : ∀ (v2_j59 : Int) (v3_j59 : Int) (v4_j59 : Int), f_X6_spell_j59 (σ) (a0) (x1) v2_j59 v3_j59 v4_j59 = some z1 → V Γ σ 0 0 59 [(0, .ref (a0)), (1, iv (x1)), (2, iv (v2_j59)), (3, iv (v3_j59)), (4, iv (v4_j59))] [] := by
        intro v2_j59 v3_j59 v4_j59 h
        unfold f_X6_spell_j59 at h
        refine r_iload_n X 2 dX6_spell_59 rfl rfl ?_
        refine r_iload X 4 dX6_spell_60 rfl ?_
        obtain ⟨r5, h4, h⟩ := bd_some h
        refine r_cS (Wd := 0) X (fun l D sz => w_J3_max l D sz h4) q1128 q1556 q115 q1129 hy_J3_max rfl dX6_spell_62 rfl rfl (Nat.le_of_ble_eq_true rfl) ⟨Nat.le_of_ble_eq_true rfl, Nat.le_of_ble_eq_true rfl⟩ ⟨Nat.le_of_ble_eq_true rfl, Nat.le_of_ble_eq_true rfl⟩ ?_
        refine r_istore_n X dX6_spell_65 rfl (hL 2 (by decide)) (lv' := [(2, iv (r5)), (0, .ref (a0)), (1, iv (x1)), (3, iv (v3_j59)), (4, iv (v4_j59))]) rfl ?_
        refine r_iinc X 3 dX6_spell_66 rfl (hL 3 (by decide)) (lv' := [(3, iv ((v3_j59 + 1))), (2, iv (r5)), (0, .ref (a0)), (1, iv (x1)), (4, iv (v4_j59))]) rfl ?_
        refine r_goto (tgt := 15) X dX6_spell_69 (by decide) ?_
        exact V.sub [2, 3, 1, 0] rfl (ihb1 _ (Option.some.inj h).symm)
      refine r_iload_n X 3 dX6_spell_15 rfl rfl ?_
      refine r_aload_n X 0 dX6_spell_16 rfl rfl ?_
      refine r_getI (kf := 63) X ho0.1 rfl (by decide) rfl (Or.inl q1304) dX6_spell_17 ?_
      refine r_icmp_ge (tgt := 72) X dX6_spell_20 (by decide) h (fun c6 h => ?_) (fun c6 h => ?_)
      · refine r_iconst X dX6_spell_23 ?_
        refine r_istore X dX6_spell_24 (hL 4 (by decide)) (lv' := [(4, iv (0)), (0, .ref (a0)), (1, iv (x1)), (2, iv (v2_1)), (3, iv (v3_1))]) rfl ?_
        have L26 : ∀ s : Int, lp (fun s => f_X6_spell_b26 (σ) (a0) (x1) (v2_1) (v3_1) s) s = some z1 → V Γ (σ) 0 0 26 [(0, .ref (a0)), (1, iv (x1)), (2, iv (v2_1)), (3, iv (v3_1)), (4, iv (s))] [] := by
          refine lp_rule (P := fun s : Int => V Γ (σ) 0 0 26 [(0, .ref (a0)), (1, iv (x1)), (2, iv (v2_1)), (3, iv (v3_1)), (4, iv (s))] []) ?_
          intro s z2 h ihb2 ihe2
          obtain ⟨v4_2, es⟩ : ∃ q, q = s := ⟨s, rfl⟩
          subst es
          have h : f_X6_spell_b26 (σ) (a0) (x1) (v2_1) (v3_1) v4_2 = some z2 := h
          unfold f_X6_spell_b26 at h
          show V Γ σ 0 0 26 [(0, .ref (a0)), (1, iv (x1)), (2, iv (v2_1)), (3, iv (v3_1)), (4, iv (v4_2))] []
          refine r_aload_n X 0 dX6_spell_26 rfl rfl ?_
          refine r_getA (kf := 62) X ho0.1 rfl (by decide) (by decide) (Or.inl q1303) dX6_spell_27 ?_
          refine r_iload_n X 3 dX6_spell_30 rfl rfl ?_
          refine r_iald X ho0.1 (ho0.2 62 (by decide)) rfl rfl rfl (by decide) dX6_spell_31 h (fun h => ?_)
          refine r_iload_n X 1 dX6_spell_32 rfl rfl ?_
          refine r_icmp_ne (tgt := 59) X dX6_spell_33 (by decide) h (fun c7 h => ?_) (fun c7 h => ?_)
          · refine r_aload_n X 0 dX6_spell_36 rfl rfl ?_
            refine r_aload_n X 0 dX6_spell_37 rfl rfl ?_
            refine r_getA (kf := 61) X ho0.1 rfl (by decide) (by decide) (Or.inl q1302) dX6_spell_38 ?_
            refine r_iload_n X 3 dX6_spell_41 rfl rfl ?_
            refine r_iald X ho0.1 (ho0.2 61 (by decide)) rfl rfl rfl (by decide) dX6_spell_42 h (fun h => ?_)
            refine r_iload X 4 dX6_spell_43 rfl ?_
            refine r_iadd X dX6_spell_45 ?_
            refine r_iload_n X 1 dX6_spell_46 rfl rfl ?_
            obtain ⟨r9, h8, h⟩ := bd_some h
            refine r_cV (Wd := 0) X (fun l D sz => w_X6_hasEvent l D sz h8) ho0.1 rfl q1832 qs95 q1830 q109 q1833 hy_X6_hasEvent rfl dX6_spell_47 rfl rfl (Nat.le_of_ble_eq_true rfl) ⟨Nat.le_of_ble_eq_true rfl, Nat.le_of_ble_eq_true rfl⟩ ⟨Nat.le_of_ble_eq_true rfl, Nat.le_of_ble_eq_true rfl⟩ ?_
            refine r_if_eq (tgt := 59) X dX6_spell_50 (by decide) h (fun c10 h => ?_) (fun c10 h => ?_)
            · have h := ex_some h ihe2
              exact V.sub [0, 1, 2, 3, 4] rfl (J59 (v2_1) (v3_1) (v4_2) h)
            · refine r_iinc X 4 dX6_spell_53 rfl (hL 4 (by decide)) (lv' := [(4, iv ((v4_2 + 1))), (0, .ref (a0)), (1, iv (x1)), (2, iv (v2_1)), (3, iv (v3_1))]) rfl ?_
              refine r_goto (tgt := 26) X dX6_spell_56 (by decide) ?_
              exact V.sub [1, 2, 3, 4, 0] rfl (ihb2 _ (Option.some.inj h).symm)
          · have h := ex_some h ihe2
            exact V.sub [0, 1, 2, 3, 4] rfl (J59 (v2_1) (v3_1) (v4_2) h)
        exact V.sub [1, 2, 3, 4, 0] rfl (L26 (0) h)
      · have h := ex_some h ihe1
        refine r_iload_n X 2 dX6_spell_72 rfl rfl ?_
        cases h
        exact r_iret X hr dX6_spell_73
    exact V.sub [2, 3, 1, 0] rfl (L15 (0, 0) h)
theorem hy_X6_keep : yX6_keep.cls ≠ "java/lang/invoke/MethodHandle" ∧ yX6_keep.cls ≠ "java/lang/invoke/VarHandle" ∧ (parseMethodDescriptor yX6_keep.desc).map (fun d => d.parameters.length) = some 0 := by decide +kernel
set_option maxHeartbeats 4000000 in
theorem w_X6_keep (l : Launch) (D : DD) (sz : Nat) {σ : St} {a0 : Nat} {w : Int × St} (h : f_X6_keep σ a0 = some w) : Mt l yX6_keep cX6_keep 1 (some FieldType.int) ({ frames := 0, cells := 0, slots := 0, locals := 0 } : Room) D sz σ [.ref a0] (.returned (some (iv w.1))) (w.2) 0 0 := by
  refine Mt.of (by decide +kernel) (Nat.le_of_ble_eq_true rfl) ?_
  intro Γ X hr hnl hini hnoh
  have X : Cx Γ cX6_keep "DayBoyModel" _ := X
  have hL : ∀ i, i < 1 → i < nLc Γ := fun i q => by rw [hnl]; exact q
  show V Γ σ 0 0 0 [(0, .ref (a0))] []
  unfold f_X6_keep at h
  obtain ⟨ho0, h⟩ := cO_some h
  refine r_aload_n X 0 dX6_keep_0 rfl rfl ?_
  refine r_aload_n X 0 dX6_keep_1 rfl rfl ?_
  refine r_getI (kf := 49) X ho0.1 rfl (by decide) rfl (Or.inl q1290) dX6_keep_2 ?_
  refine r_putI (kf := 64) X ho0.1 rfl (by decide) rfl rfl (Or.inl q1305) dX6_keep_5 rfl ?_
  refine r_let h (fun σ1 eσ1 h => ?_)
  refine r_aload_n X 0 dX6_keep_8 rfl rfl ?_
  refine r_aload_n X 0 dX6_keep_9 rfl rfl ?_
  have hk2 : oc σ1 (a0) 5 := by rw [eσ1]; exact ho0
  refine r_getI (kf := 63) X hk2.1 rfl (by decide) rfl (Or.inl q1304) dX6_keep_10 ?_
  refine r_putI (kf := 65) X hk2.1 rfl (by decide) rfl rfl (Or.inl q1306) dX6_keep_13 rfl ?_
  refine r_let h (fun σ3 eσ3 h => ?_)
  refine r_aload_n X 0 dX6_keep_16 rfl rfl ?_
  have hk4 : oc σ3 (a0) 5 := by rw [eσ3]; exact hk2
  refine r_getI (kf := 49) X hk4.1 rfl (by decide) rfl (Or.inl q1290) dX6_keep_17 ?_
  refine r_aload_n X 0 dX6_keep_20 rfl rfl ?_
  refine r_getI (kf := 63) X hk4.1 rfl (by decide) rfl (Or.inl q1304) dX6_keep_21 ?_
  refine r_iadd X dX6_keep_24 ?_
  cases h
  exact r_iret X hr dX6_keep_25
theorem hy_X6_back : yX6_back.cls ≠ "java/lang/invoke/MethodHandle" ∧ yX6_back.cls ≠ "java/lang/invoke/VarHandle" ∧ (parseMethodDescriptor yX6_back.desc).map (fun d => d.parameters.length) = some 0 := by decide +kernel
set_option maxHeartbeats 4000000 in
theorem w_X6_back (l : Launch) (D : DD) (sz : Nat) {σ : St} {a0 : Nat} {w : Int × St} (h : f_X6_back σ a0 = some w) : Mt l yX6_back cX6_back 1 (some FieldType.int) ({ frames := 1, cells := 0, slots := 0, locals := 14 } : Room) D sz σ [.ref a0] (.returned (some (iv w.1))) (w.2) 0 0 := by
  refine Mt.of (by decide +kernel) (Nat.le_of_ble_eq_true rfl) ?_
  intro Γ X hr hnl hini hnoh
  have X : Cx Γ cX6_back "DayBoyModel" _ := X
  have hL : ∀ i, i < 1 → i < nLc Γ := fun i q => by rw [hnl]; exact q
  show V Γ σ 0 0 0 [(0, .ref (a0))] []
  unfold f_X6_back at h
  obtain ⟨ho0, h⟩ := cO_some h
  refine r_aload_n X 0 dX6_back_0 rfl rfl ?_
  refine r_aload_n X 0 dX6_back_1 rfl rfl ?_
  refine r_getI (kf := 49) X ho0.1 rfl (by decide) rfl (Or.inl q1290) dX6_back_2 ?_
  refine r_aload_n X 0 dX6_back_5 rfl rfl ?_
  refine r_getI (kf := 64) X ho0.1 rfl (by decide) rfl (Or.inl q1305) dX6_back_6 ?_
  obtain ⟨r2, h1, h⟩ := bd_some h
  refine r_cS (Wd := 1) X (fun l D sz => w_J3_min l D sz h1) q585 q1543 q115 q586 hy_J3_min rfl dX6_back_9 rfl rfl (Nat.le_of_ble_eq_true rfl) ⟨Nat.le_of_ble_eq_true rfl, Nat.le_of_ble_eq_true rfl⟩ ⟨Nat.le_of_ble_eq_true rfl, Nat.le_of_ble_eq_true rfl⟩ ?_
  refine r_putI (kf := 49) X ho0.1 rfl (by decide) rfl rfl (Or.inl q1290) dX6_back_12 rfl ?_
  refine r_let h (fun σ3 eσ3 h => ?_)
  refine r_aload_n X 0 dX6_back_15 rfl rfl ?_
  refine r_aload_n X 0 dX6_back_16 rfl rfl ?_
  have hk4 : oc σ3 (a0) 5 := by rw [eσ3]; exact ho0
  refine r_getI (kf := 63) X hk4.1 rfl (by decide) rfl (Or.inl q1304) dX6_back_17 ?_
  refine r_aload_n X 0 dX6_back_20 rfl rfl ?_
  refine r_getI (kf := 65) X hk4.1 rfl (by decide) rfl (Or.inl q1306) dX6_back_21 ?_
  obtain ⟨r6, h5, h⟩ := bd_some h
  refine r_cS (Wd := 1) X (fun l D sz => w_J3_min l D sz h5) q585 q1543 q115 q586 hy_J3_min rfl dX6_back_24 rfl rfl (Nat.le_of_ble_eq_true rfl) ⟨Nat.le_of_ble_eq_true rfl, Nat.le_of_ble_eq_true rfl⟩ ⟨Nat.le_of_ble_eq_true rfl, Nat.le_of_ble_eq_true rfl⟩ ?_
  refine r_putI (kf := 63) X hk4.1 rfl (by decide) rfl rfl (Or.inl q1304) dX6_back_27 rfl ?_
  refine r_let h (fun σ7 eσ7 h => ?_)
  refine r_aload_n X 0 dX6_back_30 rfl rfl ?_
  have hk8 : oc σ7 (a0) 5 := by rw [eσ7]; exact hk4
  refine r_getI (kf := 49) X hk8.1 rfl (by decide) rfl (Or.inl q1290) dX6_back_31 ?_
  refine r_aload_n X 0 dX6_back_34 rfl rfl ?_
  refine r_getI (kf := 63) X hk8.1 rfl (by decide) rfl (Or.inl q1304) dX6_back_35 ?_
  refine r_iadd X dX6_back_38 ?_
  cases h
  exact r_iret X hr dX6_back_39
theorem hy_X6_row : yX6_row.cls ≠ "java/lang/invoke/MethodHandle" ∧ yX6_row.cls ≠ "java/lang/invoke/VarHandle" ∧ (parseMethodDescriptor yX6_row.desc).map (fun d => d.parameters.length) = some 3 := by decide +kernel
set_option maxHeartbeats 4000000 in
theorem w_X6_row (l : Launch) (D : DD) (sz : Nat) {σ : St} {a0 : Nat} {x1 : Int} {x2 : Int} {x3 : Int} {w : Int × St} (h : f_X6_row σ a0 x1 x2 x3 = some w) : Mt l yX6_row cX6_row 8 (some FieldType.int) ({ frames := 6, cells := 0, slots := 0, locals := 101 } : Room) D sz σ [.ref a0, iv (x1), iv (x2), iv (x3)] (.returned (some (iv w.1))) (w.2) 0 0 := by
  refine Mt.of (by decide +kernel) (Nat.le_of_ble_eq_true rfl) ?_
  intro Γ X hr hnl hini hnoh
  have X : Cx Γ cX6_row "DayBoyModel" _ := X
  have hL : ∀ i, i < 8 → i < nLc Γ := fun i q => by rw [hnl]; exact q
  show V Γ σ 0 0 0 [(0, .ref (a0)), (1, iv (x1)), (2, iv (x2)), (3, iv (x3))] []
  unfold f_X6_row at h
  obtain ⟨ho0, h⟩ := cO_some h
  refine r_aload_n X 0 dX6_row_0 rfl rfl ?_
  refine r_iload_n X 1 dX6_row_1 rfl rfl ?_
  obtain ⟨r2, h1, h⟩ := bd_some h
  refine r_cV (Wd := 0) X (fun l D sz => w_X6_isHead l D sz h1) ho0.1 rfl q1662 qs79 q1660 q109 q1663 hy_X6_isHead rfl dX6_row_2 rfl rfl (Nat.le_of_ble_eq_true rfl) ⟨Nat.le_of_ble_eq_true rfl, Nat.le_of_ble_eq_true rfl⟩ ⟨Nat.le_of_ble_eq_true rfl, Nat.le_of_ble_eq_true rfl⟩ ?_
  refine r_if_eq (tgt := 30) X dX6_row_5 (by decide) h (fun c3 h => ?_) (fun c3 h => ?_)
  · refine r_iconst X dX6_row_30 ?_
    cases h
    exact r_iret X hr dX6_row_31
  · refine r_aload_n X 0 dX6_row_8 rfl rfl ?_
    refine r_iload_n X 2 dX6_row_9 rfl rfl ?_
    obtain ⟨r5, h4, h⟩ := bd_some h
    refine r_cV (Wd := 0) X (fun l D sz => w_X6_isCalendar l D sz h4) ho0.1 rfl q1622 qs75 q1620 q109 q1623 hy_X6_isCalendar rfl dX6_row_10 rfl rfl (Nat.le_of_ble_eq_true rfl) ⟨Nat.le_of_ble_eq_true rfl, Nat.le_of_ble_eq_true rfl⟩ ⟨Nat.le_of_ble_eq_true rfl, Nat.le_of_ble_eq_true rfl⟩ ?_
    refine r_if_eq (tgt := 30) X dX6_row_13 (by decide) h (fun c6 h => ?_) (fun c6 h => ?_)
    · refine r_iconst X dX6_row_30 ?_
      cases h
      exact r_iret X hr dX6_row_31
    · refine r_iload_n X 3 dX6_row_16 rfl rfl ?_
      refine r_iconst X dX6_row_17 ?_
      refine r_aload_n X 0 dX6_row_18 rfl rfl ?_
      refine r_getI (kf := 69) X ho0.1 rfl (by decide) rfl (Or.inl q1310) dX6_row_19 ?_
      refine r_iconst X dX6_row_22 ?_
      refine r_isub X dX6_row_23 ?_
      obtain ⟨r8, h7, h⟩ := bd_some h
      refine r_cS (Wd := 0) X (fun l D sz => w_X6_in l D sz h7) q1502 q1501 q109 q1503 hy_X6_in rfl dX6_row_24 rfl rfl (Nat.le_of_ble_eq_true rfl) ⟨Nat.le_of_ble_eq_true rfl, Nat.le_of_ble_eq_true rfl⟩ ⟨Nat.le_of_ble_eq_true rfl, Nat.le_of_ble_eq_true rfl⟩ ?_
      refine r_if_ne (tgt := 32) X dX6_row_27 (by decide) h (fun c9 h => ?_) (fun c9 h => ?_)
      · refine r_iconst X dX6_row_30 ?_
        cases h
        exact r_iret X hr dX6_row_31
      · refine r_iconst X dX6_row_32 ?_
        refine r_istore X dX6_row_33 (hL 4 (by decide)) (lv' := [(4, iv (0)), (0, .ref (a0)), (1, iv (x1)), (2, iv (x2)), (3, iv (x3))]) rfl ?_
        refine r_iconst X dX6_row_35 ?_
        refine r_istore X dX6_row_36 (hL 5 (by decide)) (lv' := [(5, iv (0)), (4, iv (0)), (0, .ref (a0)), (1, iv (x1)), (2, iv (x2)), (3, iv (x3))]) rfl ?_
        refine r_iconst X dX6_row_38 ?_
        refine r_istore X dX6_row_39 (hL 6 (by decide)) (lv' := [(6, iv (0)), (5, iv (0)), (4, iv (0)), (0, .ref (a0)), (1, iv (x1)), (2, iv (x2)), (3, iv (x3))]) rfl ?_
        have L41 : ∀ s : Int × Int × Int × St, lp (fun s => f_X6_row_b41 (a0) (x1) (x2) (x3) s.1 s.2.1 s.2.2.1 s.2.2.2) s = some w → V Γ (s.2.2.2) 0 0 41 [(0, .ref (a0)), (1, iv (x1)), (2, iv (x2)), (3, iv (x3)), (4, iv (s.1)), (5, iv (s.2.1)), (6, iv (s.2.2.1))] [] := by
          refine lp_rule (P := fun s : Int × Int × Int × St => V Γ (s.2.2.2) 0 0 41 [(0, .ref (a0)), (1, iv (x1)), (2, iv (x2)), (3, iv (x3)), (4, iv (s.1)), (5, iv (s.2.1)), (6, iv (s.2.2.1))] []) ?_
          intro s z1 h ihb1 ihe1
          obtain ⟨v4_1, v5_1, v6_1, σ_1⟩ := s
          have h : f_X6_row_b41 (a0) (x1) (x2) (x3) v4_1 v5_1 v6_1 σ_1 = some z1 := h
          unfold f_X6_row_b41 at h
          show V Γ σ_1 0 0 41 [(0, .ref (a0)), (1, iv (x1)), (2, iv (x2)), (3, iv (x3)), (4, iv (v4_1)), (5, iv (v5_1)), (6, iv (v6_1))] []
          have J144 : ∀ (v4_j144 : Int) (v6_j144 : Int) (t0_j144 : Int) (σ_j144 : St), f_X6_row_j144 (a0) (x1) (x2) (x3) v4_j144 v6_j144 t0_j144 σ_j144 = some z1 → V Γ σ_j144 0 0 144 [(0, .ref (a0)), (1, iv (x1)), (2, iv (x2)), (3, iv (x3)), (4, iv (v4_j144)), (6, iv (v6_j144))] [iv (t0_j144)] := by
            intro v4_j144 v6_j144 t0_j144 σ_j144 h
            unfold f_X6_row_j144 at h
            refine r_istore X dX6_row_144 (hL 5 (by decide)) (lv' := [(5, iv (t0_j144)), (0, .ref (a0)), (1, iv (x1)), (2, iv (x2)), (3, iv (x3)), (4, iv (v4_j144)), (6, iv (v6_j144))]) rfl ?_
            refine r_iload X 0 dX6_row_146 rfl ?_
            refine r_bipush X dX6_row_148 (by decide) ?_
            refine r_icmp_ne (tgt := 160) X dX6_row_150 (by decide) h (fun c10 h => ?_) (fun c10 h => ?_)
            · refine r_iload X 5 dX6_row_153 rfl ?_
              refine r_iconst X dX6_row_155 ?_
              refine r_iadd X dX6_row_156 ?_
              refine r_goto (tgt := 172) X dX6_row_157 (by decide) ?_
              refine r_istore X dX6_row_172 (hL 4 (by decide)) (lv' := [(4, iv ((v4_j144 + 1))), (5, iv (t0_j144)), (0, .ref (a0)), (1, iv (x1)), (2, iv (x2)), (3, iv (x3)), (6, iv (v6_j144))]) rfl ?_
              refine r_iinc X 6 dX6_row_174 rfl (hL 6 (by decide)) (lv' := [(6, iv ((v6_j144 + 1))), (4, iv ((v4_j144 + 1))), (5, iv (t0_j144)), (0, .ref (a0)), (1, iv (x1)), (2, iv (x2)), (3, iv (x3))]) rfl ?_
              refine r_goto (tgt := 41) X dX6_row_177 (by decide) ?_
              exact V.sub [3, 4, 5, 6, 1, 2, 0] rfl (ihb1 _ (Option.some.inj h).symm)
            · refine r_iload X 0 dX6_row_160 rfl ?_
              refine r_bipush X dX6_row_162 (by decide) ?_
              refine r_icmp_ne (tgt := 171) X dX6_row_164 (by decide) h (fun c11 h => ?_) (fun c11 h => ?_)
              · refine r_iconst X dX6_row_167 ?_
                refine r_goto (tgt := 172) X dX6_row_168 (by decide) ?_
                refine r_istore X dX6_row_172 (hL 4 (by decide)) (lv' := [(4, iv (3)), (5, iv (t0_j144)), (0, .ref (a0)), (1, iv (x1)), (2, iv (x2)), (3, iv (x3)), (6, iv (v6_j144))]) rfl ?_
                refine r_iinc X 6 dX6_row_174 rfl (hL 6 (by decide)) (lv' := [(6, iv ((v6_j144 + 1))), (4, iv (3)), (5, iv (t0_j144)), (0, .ref (a0)), (1, iv (x1)), (2, iv (x2)), (3, iv (x3))]) rfl ?_
                refine r_goto (tgt := 41) X dX6_row_177 (by decide) ?_
                exact V.sub [3, 4, 5, 6, 1, 2, 0] rfl (ihb1 _ (Option.some.inj h).symm)
              · refine r_iconst X dX6_row_171 ?_
                refine r_istore X dX6_row_172 (hL 4 (by decide)) (lv' := [(4, iv (0)), (5, iv (t0_j144)), (0, .ref (a0)), (1, iv (x1)), (2, iv (x2)), (3, iv (x3)), (6, iv (v6_j144))]) rfl ?_
                refine r_iinc X 6 dX6_row_174 rfl (hL 6 (by decide)) (lv' := [(6, iv ((v6_j144 + 1))), (4, iv (0)), (5, iv (t0_j144)), (0, .ref (a0)), (1, iv (x1)), (2, iv (x2)), (3, iv (x3))]) rfl ?_
                refine r_goto (tgt := 41) X dX6_row_177 (by decide) ?_
                exact V.sub [3, 4, 5, 6, 1, 2, 0] rfl (ihb1 _ (Option.some.inj h).symm)
          have J117 : ∀ (v4_j117 : Int) (v6_j117 : Int) (t0_j117 : Int) (σ_j117 : St), f_X6_row_j117 (a0) (x1) (x2) (x3) v4_j117 v6_j117 t0_j117 σ_j117 = some z1 → V Γ σ_j117 0 0 117 [(0, .ref (a0)), (1, iv (x1)), (2, iv (x2)), (3, iv (x3)), (4, iv (v4_j117)), (6, iv (v6_j117))] [iv (t0_j117)] := by
            intro v4_j117 v6_j117 t0_j117 σ_j117 h
            unfold f_X6_row_j117 at h
            refine r_istore X dX6_row_117 (hL 7 (by decide)) (lv' := [(7, iv (t0_j117)), (0, .ref (a0)), (1, iv (x1)), (2, iv (x2)), (3, iv (x3)), (4, iv (v4_j117)), (6, iv (v6_j117))]) rfl ?_
            refine r_iload X 5 dX6_row_119 rfl ?_
            refine r_iconst X dX6_row_121 ?_
            refine r_icmp_ne (tgt := 130) X dX6_row_122 (by decide) h (fun c12 h => ?_) (fun c12 h => ?_)
            · refine r_bipush X dX6_row_125 (by decide) ?_
              refine r_goto (tgt := 144) X dX6_row_127 (by decide) ?_
              exact V.sub [1, 2, 3, 4, 5, 6] rfl (J144 (v4_j117) (v6_j117) (8) (σ_j117) h)
            · refine r_iload X 0 dX6_row_130 rfl ?_
              refine r_if_eq (tgt := 142) X dX6_row_132 (by decide) h (fun c13 h => ?_) (fun c13 h => ?_)
              · refine r_bipush X dX6_row_142 (by decide) ?_
                exact V.sub [1, 2, 3, 4, 5, 6] rfl (J144 (v4_j117) (v6_j117) (7) (σ_j117) h)
              · refine r_aload_n X 1 dX6_row_135 rfl rfl ?_
                obtain ⟨ho14, h⟩ := cO_some h
                refine r_getI (kf := 40) X ho14.1 rfl (by decide) rfl (Or.inl q1281) dX6_row_136 ?_
                refine r_goto (tgt := 144) X dX6_row_139 (by decide) ?_
                exact V.sub [1, 2, 3, 4, 5, 6] rfl (J144 (v4_j117) (v6_j117) ((gI (σ_j117) (a0) 40 0)) (σ_j117) h)
          have J116 : ∀ (v4_j116 : Int) (v6_j116 : Int) (σ_j116 : St), f_X6_row_j116 (a0) (x1) (x2) (x3) v4_j116 v6_j116 σ_j116 = some z1 → V Γ σ_j116 0 0 116 [(0, .ref (a0)), (1, iv (x1)), (2, iv (x2)), (3, iv (x3)), (4, iv (v4_j116)), (6, iv (v6_j116))] [] := by
            intro v4_j116 v6_j116 σ_j116 h
            unfold f_X6_row_j116 at h
            refine r_iconst X dX6_row_116 ?_
            exact V.sub [0, 1, 2, 3, 4, 5] rfl (J117 (v4_j116) (v6_j116) (0) (σ_j116) h)
          refine r_iload X 6 dX6_row_41 rfl ?_
          refine r_iload_n X 3 dX6_row_43 rfl rfl ?_
          refine r_icmp_gt (tgt := 180) X dX6_row_44 (by decide) h (fun c15 h => ?_) (fun c15 h => ?_)
          · have h := ex_some h ihe1
            refine r_iload X 5 dX6_row_180 rfl ?_
            cases h
            exact r_iret X hr dX6_row_182
          · refine r_iload X 4 dX6_row_47 rfl ?_
            refine r_iconst X dX6_row_49 ?_
            refine r_icmp_ge (tgt := 116) X dX6_row_50 (by decide) h (fun c16 h => ?_) (fun c16 h => ?_)
            · refine r_aload_n X 0 dX6_row_53 rfl rfl ?_
              refine r_iload_n X 2 dX6_row_54 rfl rfl ?_
              refine r_aload_n X 0 dX6_row_55 rfl rfl ?_
              obtain ⟨ho17, h⟩ := cO_some h
              refine r_getA (kf := 66) X ho17.1 rfl (by decide) (by decide) (Or.inl q1307) dX6_row_56 ?_
              refine r_iload X 6 dX6_row_59 rfl ?_
              refine r_iald X ho17.1 (ho17.2 66 (by decide)) rfl rfl rfl (by decide) dX6_row_61 h (fun h => ?_)
              refine r_aload_n X 0 dX6_row_62 rfl rfl ?_
              refine r_getA (kf := 67) X ho17.1 rfl (by decide) (by decide) (Or.inl q1308) dX6_row_63 ?_
              refine r_iload X 6 dX6_row_66 rfl ?_
              refine r_iald X ho17.1 (ho17.2 67 (by decide)) rfl rfl rfl (by decide) dX6_row_68 h (fun h => ?_)
              refine r_aload_n X 0 dX6_row_69 rfl rfl ?_
              refine r_getA (kf := 68) X ho17.1 rfl (by decide) (by decide) (Or.inl q1309) dX6_row_70 ?_
              refine r_iload X 6 dX6_row_73 rfl ?_
              refine r_iald X ho17.1 (ho17.2 68 (by decide)) rfl rfl rfl (by decide) dX6_row_75 h (fun h => ?_)
              obtain ⟨r19, h18, h⟩ := bd_some h
              refine r_cV (Wd := 0) X (fun l D sz => w_X6_isDate l D sz h18) ho17.1 rfl q1614 qs73 q1612 q109 q1615 hy_X6_isDate rfl dX6_row_76 rfl rfl (Nat.le_of_ble_eq_true rfl) ⟨Nat.le_of_ble_eq_true rfl, Nat.le_of_ble_eq_true rfl⟩ ⟨Nat.le_of_ble_eq_true rfl, Nat.le_of_ble_eq_true rfl⟩ ?_
              refine r_if_eq (tgt := 116) X dX6_row_79 (by decide) h (fun c20 h => ?_) (fun c20 h => ?_)
              · exact V.sub [0, 1, 2, 3, 4, 6] rfl (J116 (v4_1) (v6_1) (σ_1) h)
              · refine r_aload_n X 0 dX6_row_82 rfl rfl ?_
                refine r_iload_n X 1 dX6_row_83 rfl rfl ?_
                refine r_iload_n X 2 dX6_row_84 rfl rfl ?_
                refine r_aload_n X 0 dX6_row_85 rfl rfl ?_
                refine r_getA (kf := 66) X ho17.1 rfl (by decide) (by decide) (Or.inl q1307) dX6_row_86 ?_
                refine r_iload X 6 dX6_row_89 rfl ?_
                refine r_iald X ho17.1 (ho17.2 66 (by decide)) rfl rfl rfl (by decide) dX6_row_91 h (fun h => ?_)
                refine r_aload_n X 0 dX6_row_92 rfl rfl ?_
                refine r_getA (kf := 67) X ho17.1 rfl (by decide) (by decide) (Or.inl q1308) dX6_row_93 ?_
                refine r_iload X 6 dX6_row_96 rfl ?_
                refine r_iald X ho17.1 (ho17.2 67 (by decide)) rfl rfl rfl (by decide) dX6_row_98 h (fun h => ?_)
                refine r_aload_n X 0 dX6_row_99 rfl rfl ?_
                refine r_getA (kf := 68) X ho17.1 rfl (by decide) (by decide) (Or.inl q1309) dX6_row_100 ?_
                refine r_iload X 6 dX6_row_103 rfl ?_
                refine r_iald X ho17.1 (ho17.2 68 (by decide)) rfl rfl rfl (by decide) dX6_row_105 h (fun h => ?_)
                obtain ⟨r22, σ23, h21, h⟩ := bd2_some h
                refine r_cV (Wd := 0) X (fun l D sz => w_X6_answer l D sz h21) ho17.1 rfl q1682 qs83 q1680 q109 q1683 hy_X6_answer rfl dX6_row_106 rfl rfl (Nat.le_of_ble_eq_true rfl) ⟨Nat.le_of_ble_eq_true rfl, Nat.le_of_ble_eq_true rfl⟩ ⟨Nat.le_of_ble_eq_true rfl, Nat.le_of_ble_eq_true rfl⟩ ?_
                refine r_if_eq (tgt := 116) X dX6_row_109 (by decide) h (fun c24 h => ?_) (fun c24 h => ?_)
                · exact V.sub [0, 1, 2, 3, 4, 6] rfl (J116 (v4_1) (v6_1) (σ23) h)
                · refine r_iconst X dX6_row_112 ?_
                  refine r_goto (tgt := 117) X dX6_row_113 (by decide) ?_
                  exact V.sub [0, 1, 2, 3, 4, 6] rfl (J117 (v4_1) (v6_1) (1) (σ23) h)
            · exact V.sub [0, 1, 2, 3, 4, 6] rfl (J116 (v4_1) (v6_1) (σ_1) h)
        exact V.sub [3, 4, 5, 6, 2, 1, 0] rfl (L41 (0, 0, 0, σ) h)
theorem hy_X6_draw : yX6_draw.cls ≠ "java/lang/invoke/MethodHandle" ∧ yX6_draw.cls ≠ "java/lang/invoke/VarHandle" ∧ (parseMethodDescriptor yX6_draw.desc).map (fun d => d.parameters.length) = some 1 := by decide +kernel
set_option maxHeartbeats 4000000 in
theorem w_X6_draw (l : Launch) (D : DD) (sz : Nat) {σ : St} {a0 : Nat} {x1 : Int} {w : Int × St} (h : f_X6_draw σ a0 x1 = some w) : Mt l yX6_draw cX6_draw 2 (some FieldType.int) ({ frames := 0, cells := 0, slots := 0, locals := 0 } : Room) D sz σ [.ref a0, iv (x1)] (.returned (some (iv w.1))) (w.2) 0 0 := by
  refine Mt.of (by decide +kernel) (Nat.le_of_ble_eq_true rfl) ?_
  intro Γ X hr hnl hini hnoh
  have X : Cx Γ cX6_draw "DayBoyModel" _ := X
  have hL : ∀ i, i < 2 → i < nLc Γ := fun i q => by rw [hnl]; exact q
  show V Γ σ 0 0 0 [(0, .ref (a0)), (1, iv (x1))] []
  unfold f_X6_draw at h
  obtain ⟨ho0, h⟩ := cO_some h
  refine r_aload_n X 0 dX6_draw_0 rfl rfl ?_
  refine r_aload_n X 0 dX6_draw_1 rfl rfl ?_
  refine r_getJ (kf := 70) X ho0.1 rfl (by decide) rfl (Or.inl q1311) dX6_draw_2 ?_
  refine r_ldc2 (z := 6364136223846793005) X q1854 dX6_draw_5 rfl ?_
  refine r_lmul X dX6_draw_8 ?_
  refine r_ldc2 (z := 1442695040888963407) X q1855 dX6_draw_9 rfl ?_
  refine r_ladd X dX6_draw_12 ?_
  refine r_putJ (kf := 70) X ho0.1 rfl (by decide) rfl rfl (Or.inl q1311) dX6_draw_13 rfl ?_
  refine r_let h (fun σ1 eσ1 h => ?_)
  refine r_aload_n X 0 dX6_draw_16 rfl rfl ?_
  have hk2 : oc σ1 (a0) 5 := by rw [eσ1]; exact ho0
  refine r_getJ (kf := 70) X hk2.1 rfl (by decide) rfl (Or.inl q1311) dX6_draw_17 ?_
  refine r_bipush X dX6_draw_20 (by decide) ?_
  refine r_lushr X dX6_draw_22 ?_
  refine r_iload_n X 1 dX6_draw_23 rfl rfl ?_
  obtain ⟨c3, h⟩ := ck_some h
  refine r_i2l X dX6_draw_24 c3 ?_
  obtain ⟨⟨c4, c5, c6⟩, h⟩ := ck_some h
  refine r_lrem X dX6_draw_25 c4 c5 c6 ?_
  refine r_l2i X dX6_draw_26 ?_
  cases h
  exact r_iret X hr dX6_draw_27
theorem hy_X6_isEased : yX6_isEased.cls ≠ "java/lang/invoke/MethodHandle" ∧ yX6_isEased.cls ≠ "java/lang/invoke/VarHandle" ∧ (parseMethodDescriptor yX6_isEased.desc).map (fun d => d.parameters.length) = some 1 := by decide +kernel
set_option maxHeartbeats 4000000 in
theorem w_X6_isEased (l : Launch) (D : DD) (sz : Nat) {σ : St} {a0 : Nat} {x1 : Int} {w : Int} (h : f_X6_isEased σ a0 x1 = some w) : Mt l yX6_isEased cX6_isEased 3 (some FieldType.boolean) ({ frames := 5, cells := 0, slots := 0, locals := 85 } : Room) D sz σ [.ref a0, iv (x1)] (.returned (some (iv w))) (σ) 0 0 := by
  refine Mt.of (by decide +kernel) (Nat.le_of_ble_eq_true rfl) ?_
  intro Γ X hr hnl hini hnoh
  have X : Cx Γ cX6_isEased "DayBoyModel" _ := X
  have hL : ∀ i, i < 3 → i < nLc Γ := fun i q => by rw [hnl]; exact q
  show V Γ σ 0 0 0 [(0, .ref (a0)), (1, iv (x1))] []
  unfold f_X6_isEased at h
  obtain ⟨ho0, h⟩ := cO_some h
  refine r_iload_n X 1 dX6_isEased_0 rfl rfl ?_
  refine r_if_ne (tgt := 6) X dX6_isEased_1 (by decide) h (fun c1 h => ?_) (fun c1 h => ?_)
  · refine r_iconst X dX6_isEased_4 ?_
    cases h
    exact r_zret X hr (by decide) dX6_isEased_5
  · refine r_aload_n X 0 dX6_isEased_6 rfl rfl ?_
    refine r_aload_n X 0 dX6_isEased_7 rfl rfl ?_
    refine r_getA (kf := 50) X ho0.1 rfl (by decide) (by decide) (Or.inl q1291) dX6_isEased_8 ?_
    refine r_iload_n X 1 dX6_isEased_11 rfl rfl ?_
    refine r_iald X ho0.1 (ho0.2 50 (by decide)) rfl rfl rfl (by decide) dX6_isEased_12 h (fun h => ?_)
    refine r_aload_n X 0 dX6_isEased_13 rfl rfl ?_
    refine r_getA (kf := 51) X ho0.1 rfl (by decide) (by decide) (Or.inl q1292) dX6_isEased_14 ?_
    refine r_iload_n X 1 dX6_isEased_17 rfl rfl ?_
    refine r_iald X ho0.1 (ho0.2 51 (by decide)) rfl rfl rfl (by decide) dX6_isEased_18 h (fun h => ?_)
    obtain ⟨r4, h3, h⟩ := bd_some h
    refine r_cV (Wd := 0) X (fun l D sz => w_X6_kindOf l D sz h3) ho0.1 rfl q1654 qs78 q1652 q109 q1655 hy_X6_kindOf rfl dX6_isEased_19 rfl rfl (Nat.le_of_ble_eq_true rfl) ⟨Nat.le_of_ble_eq_true rfl, Nat.le_of_ble_eq_true rfl⟩ ⟨Nat.le_of_ble_eq_true rfl, Nat.le_of_ble_eq_true rfl⟩ ?_
    refine r_istore_n X dX6_isEased_22 rfl (hL 2 (by decide)) (lv' := [(2, iv (r4)), (0, .ref (a0)), (1, iv (x1))]) rfl ?_
    refine r_iload_n X 0 dX6_isEased_23 rfl rfl ?_
    refine r_iconst X dX6_isEased_24 ?_
    refine r_icmp_eq (tgt := 56) X dX6_isEased_25 (by decide) h (fun c5 h => ?_) (fun c5 h => ?_)
    · refine r_iconst X dX6_isEased_56 ?_
      cases h
      exact r_zret X hr (by decide) dX6_isEased_57
    · refine r_iload_n X 0 dX6_isEased_28 rfl rfl ?_
      refine r_aload_n X 1 dX6_isEased_29 rfl rfl ?_
      refine r_aload_n X 1 dX6_isEased_30 rfl rfl ?_
      refine r_getA (kf := 50) X ho0.1 rfl (by decide) (by decide) (Or.inl q1291) dX6_isEased_31 ?_
      refine r_iload_n X 2 dX6_isEased_34 rfl rfl ?_
      refine r_iconst X dX6_isEased_35 ?_
      refine r_isub X dX6_isEased_36 ?_
      refine r_iald X ho0.1 (ho0.2 50 (by decide)) rfl rfl rfl (by decide) dX6_isEased_37 h (fun h => ?_)
      refine r_aload_n X 1 dX6_isEased_38 rfl rfl ?_
      refine r_getA (kf := 51) X ho0.1 rfl (by decide) (by decide) (Or.inl q1292) dX6_isEased_39 ?_
      refine r_iload_n X 2 dX6_isEased_42 rfl rfl ?_
      refine r_iconst X dX6_isEased_43 ?_
      refine r_isub X dX6_isEased_44 ?_
      refine r_iald X ho0.1 (ho0.2 51 (by decide)) rfl rfl rfl (by decide) dX6_isEased_45 h (fun h => ?_)
      obtain ⟨r8, h7, h⟩ := bd_some h
      refine r_cV (Wd := 1) X (fun l D sz => w_X6_kindOf l D sz h7) ho0.1 rfl q1654 qs78 q1652 q109 q1655 hy_X6_kindOf rfl dX6_isEased_46 rfl rfl (Nat.le_of_ble_eq_true rfl) ⟨Nat.le_of_ble_eq_true rfl, Nat.le_of_ble_eq_true rfl⟩ ⟨Nat.le_of_ble_eq_true rfl, Nat.le_of_ble_eq_true rfl⟩ ?_
      refine r_icmp_ne (tgt := 56) X dX6_isEased_49 (by decide) h (fun c9 h => ?_) (fun c9 h => ?_)
      · refine r_iconst X dX6_isEased_52 ?_
        refine r_goto (tgt := 57) X dX6_isEased_53 (by decide) ?_
        cases h
        exact r_zret X hr (by decide) dX6_isEased_57
      · refine r_iconst X dX6_isEased_56 ?_
        cases h
        exact r_zret X hr (by decide) dX6_isEased_57
theorem hy_X6_run : yX6_run.cls ≠ "java/lang/invoke/MethodHandle" ∧ yX6_run.cls ≠ "java/lang/invoke/VarHandle" ∧ (parseMethodDescriptor yX6_run.desc).map (fun d => d.parameters.length) = some 5 := by decide +kernel
set_option maxHeartbeats 4000000 in
theorem w_X6_run (l : Launch) (D : DD) (sz : Nat) {σ : St} {a0 : Nat} {x1 : Int} {y2 : Int} {x4 : Int} {x5 : Int} {x6 : Int} {w : Int × St} (h : f_X6_run σ a0 x1 y2 x4 x5 x6 = some w) : Mt l yX6_run cX6_run 12 (some FieldType.int) ({ frames := 6, cells := 0, slots := 0, locals := 101 } : Room) D sz σ [.ref a0, iv (x1), jv (y2), iv (x4), iv (x5), iv (x6)] (.returned (some (iv w.1))) (w.2) 0 0 := by
  refine Mt.of (by decide +kernel) (Nat.le_of_ble_eq_true rfl) ?_
  intro Γ X hr hnl hini hnoh
  have X : Cx Γ cX6_run "DayBoyModel" _ := X
  have hL : ∀ i, i < 12 → i < nLc Γ := fun i q => by rw [hnl]; exact q
  show V Γ σ 0 0 0 [(0, .ref (a0)), (1, iv (x1)), (2, jv (y2)), (4, iv (x4)), (5, iv (x5)), (6, iv (x6))] []
  unfold f_X6_run at h
  obtain ⟨ho0, h⟩ := cO_some h
  refine r_aload_n X 0 dX6_run_0 rfl rfl ?_
  refine r_iload_n X 1 dX6_run_1 rfl rfl ?_
  obtain ⟨r2, h1, h⟩ := bd_some h
  refine r_cV (Wd := 0) X (fun l D sz => w_X6_isHead l D sz h1) ho0.1 rfl q1662 qs79 q1660 q109 q1663 hy_X6_isHead rfl dX6_run_2 rfl rfl (Nat.le_of_ble_eq_true rfl) ⟨Nat.le_of_ble_eq_true rfl, Nat.le_of_ble_eq_true rfl⟩ ⟨Nat.le_of_ble_eq_true rfl, Nat.le_of_ble_eq_true rfl⟩ ?_
  refine r_if_eq (tgt := 45) X dX6_run_5 (by decide) h (fun c3 h => ?_) (fun c3 h => ?_)
  · refine r_iconst X dX6_run_45 ?_
    cases h
    exact r_iret X hr dX6_run_46
  · refine r_iload X 3 dX6_run_8 rfl ?_
    refine r_iconst X dX6_run_10 ?_
    refine r_bipush X dX6_run_11 (by decide) ?_
    obtain ⟨r5, h4, h⟩ := bd_some h
    refine r_cS (Wd := 0) X (fun l D sz => w_X6_in l D sz h4) q1502 q1501 q109 q1503 hy_X6_in rfl dX6_run_13 rfl rfl (Nat.le_of_ble_eq_true rfl) ⟨Nat.le_of_ble_eq_true rfl, Nat.le_of_ble_eq_true rfl⟩ ⟨Nat.le_of_ble_eq_true rfl, Nat.le_of_ble_eq_true rfl⟩ ?_
    refine r_if_eq (tgt := 45) X dX6_run_16 (by decide) h (fun c6 h => ?_) (fun c6 h => ?_)
    · refine r_iconst X dX6_run_45 ?_
      cases h
      exact r_iret X hr dX6_run_46
    · refine r_iload X 4 dX6_run_19 rfl ?_
      refine r_iconst X dX6_run_21 ?_
      refine r_bipush X dX6_run_22 (by decide) ?_
      obtain ⟨r8, h7, h⟩ := bd_some h
      refine r_cS (Wd := 0) X (fun l D sz => w_X6_in l D sz h7) q1502 q1501 q109 q1503 hy_X6_in rfl dX6_run_24 rfl rfl (Nat.le_of_ble_eq_true rfl) ⟨Nat.le_of_ble_eq_true rfl, Nat.le_of_ble_eq_true rfl⟩ ⟨Nat.le_of_ble_eq_true rfl, Nat.le_of_ble_eq_true rfl⟩ ?_
      refine r_if_eq (tgt := 45) X dX6_run_27 (by decide) h (fun c9 h => ?_) (fun c9 h => ?_)
      · refine r_iconst X dX6_run_45 ?_
        cases h
        exact r_iret X hr dX6_run_46
      · refine r_iload X 5 dX6_run_30 rfl ?_
        refine r_iconst X dX6_run_32 ?_
        refine r_aload_n X 0 dX6_run_33 rfl rfl ?_
        refine r_getI (kf := 54) X ho0.1 rfl (by decide) rfl (Or.inl q1295) dX6_run_34 ?_
        refine r_iconst X dX6_run_37 ?_
        refine r_isub X dX6_run_38 ?_
        obtain ⟨r11, h10, h⟩ := bd_some h
        refine r_cS (Wd := 0) X (fun l D sz => w_X6_in l D sz h10) q1502 q1501 q109 q1503 hy_X6_in rfl dX6_run_39 rfl rfl (Nat.le_of_ble_eq_true rfl) ⟨Nat.le_of_ble_eq_true rfl, Nat.le_of_ble_eq_true rfl⟩ ⟨Nat.le_of_ble_eq_true rfl, Nat.le_of_ble_eq_true rfl⟩ ?_
        refine r_if_ne (tgt := 47) X dX6_run_42 (by decide) h (fun c12 h => ?_) (fun c12 h => ?_)
        · refine r_iconst X dX6_run_45 ?_
          cases h
          exact r_iret X hr dX6_run_46
        · refine r_aload_n X 0 dX6_run_47 rfl rfl ?_
          refine r_lload_n X 2 dX6_run_48 rfl rfl ?_
          refine r_putJ (kf := 70) X ho0.1 rfl (by decide) rfl rfl (Or.inl q1311) dX6_run_49 rfl ?_
          refine r_let h (fun σ13 eσ13 h => ?_)
          refine r_iconst X dX6_run_52 ?_
          refine r_istore X dX6_run_53 (hL 7 (by decide)) (lv' := [(7, iv (0)), (0, .ref (a0)), (1, iv (x1)), (2, jv (y2)), (4, iv (x4)), (5, iv (x5)), (6, iv (x6))]) rfl ?_
          refine r_iconst X dX6_run_55 ?_
          refine r_istore X dX6_run_56 (hL 8 (by decide)) (lv' := [(8, iv ((-1))), (7, iv (0)), (0, .ref (a0)), (1, iv (x1)), (2, jv (y2)), (4, iv (x4)), (5, iv (x5)), (6, iv (x6))]) rfl ?_
          refine r_iconst X dX6_run_58 ?_
          refine r_istore X dX6_run_59 (hL 9 (by decide)) (lv' := [(9, iv (0)), (8, iv ((-1))), (7, iv (0)), (0, .ref (a0)), (1, iv (x1)), (2, jv (y2)), (4, iv (x4)), (5, iv (x5)), (6, iv (x6))]) rfl ?_
          have L61 : ∀ s : Int × Int × Int × St, lp (fun s => f_X6_run_b61 (a0) (x1) (x4) (x5) (x6) s.1 s.2.1 s.2.2.1 s.2.2.2) s = some w → V Γ (s.2.2.2) 0 0 61 [(0, .ref (a0)), (1, iv (x1)), (4, iv (x4)), (5, iv (x5)), (6, iv (x6)), (7, iv (s.1)), (8, iv (s.2.1)), (9, iv (s.2.2.1))] [] := by
            refine lp_rule (P := fun s : Int × Int × Int × St => V Γ (s.2.2.2) 0 0 61 [(0, .ref (a0)), (1, iv (x1)), (4, iv (x4)), (5, iv (x5)), (6, iv (x6)), (7, iv (s.1)), (8, iv (s.2.1)), (9, iv (s.2.2.1))] []) ?_
            intro s z1 h ihb1 ihe1
            obtain ⟨v7_1, v8_1, v9_1, σ_1⟩ := s
            have h : f_X6_run_b61 (a0) (x1) (x4) (x5) (x6) v7_1 v8_1 v9_1 σ_1 = some z1 := h
            unfold f_X6_run_b61 at h
            show V Γ σ_1 0 0 61 [(0, .ref (a0)), (1, iv (x1)), (4, iv (x4)), (5, iv (x5)), (6, iv (x6)), (7, iv (v7_1)), (8, iv (v8_1)), (9, iv (v9_1))] []
            have J156 : ∀ (v7_j156 : Int) (v8_j156 : Int) (v9_j156 : Int) (v10_j156 : Int) (σ_j156 : St), f_X6_run_j156 (a0) (x1) (x4) (x5) (x6) v7_j156 v8_j156 v9_j156 v10_j156 σ_j156 = some z1 → V Γ σ_j156 0 0 156 [(0, .ref (a0)), (1, iv (x1)), (4, iv (x4)), (5, iv (x5)), (6, iv (x6)), (7, iv (v7_j156)), (8, iv (v8_j156)), (9, iv (v9_j156)), (10, iv (v10_j156))] [] := by
              intro v7_j156 v8_j156 v9_j156 v10_j156 σ_j156 h
              unfold f_X6_run_j156 at h
              refine r_iload X 7 dX6_run_156 rfl ?_
              refine r_iload X 4 dX6_run_158 rfl ?_
              refine r_icmp_ne (tgt := 168) X dX6_run_160 (by decide) h (fun c14 h => ?_) (fun c14 h => ?_)
              · refine r_iload X 8 dX6_run_163 rfl ?_
                refine r_goto (tgt := 170) X dX6_run_165 (by decide) ?_
                refine r_istore X dX6_run_170 (hL 8 (by decide)) (lv' := [(8, iv (v10_j156)), (0, .ref (a0)), (1, iv (x1)), (4, iv (x4)), (5, iv (x5)), (6, iv (x6)), (7, iv (v7_j156)), (9, iv (v9_j156)), (10, iv (v10_j156))]) rfl ?_
                refine r_iinc X 7 dX6_run_172 rfl (hL 9 (by decide)) (lv' := [(9, iv ((v9_j156 + 1))), (8, iv (v10_j156)), (0, .ref (a0)), (1, iv (x1)), (4, iv (x4)), (5, iv (x5)), (6, iv (x6)), (7, iv (v7_j156)), (10, iv (v10_j156))]) rfl ?_
                refine r_goto (tgt := 61) X dX6_run_175 (by decide) ?_
                exact V.sub [2, 3, 4, 5, 6, 7, 1, 0] rfl (ihb1 _ (Option.some.inj h).symm)
              · refine r_iload X 6 dX6_run_168 rfl ?_
                refine r_istore X dX6_run_170 (hL 8 (by decide)) (lv' := [(8, iv (v8_j156)), (0, .ref (a0)), (1, iv (x1)), (4, iv (x4)), (5, iv (x5)), (6, iv (x6)), (7, iv (v7_j156)), (9, iv (v9_j156)), (10, iv (v10_j156))]) rfl ?_
                refine r_iinc X 7 dX6_run_172 rfl (hL 9 (by decide)) (lv' := [(9, iv ((v9_j156 + 1))), (8, iv (v8_j156)), (0, .ref (a0)), (1, iv (x1)), (4, iv (x4)), (5, iv (x5)), (6, iv (x6)), (7, iv (v7_j156)), (10, iv (v10_j156))]) rfl ?_
                refine r_goto (tgt := 61) X dX6_run_175 (by decide) ?_
                exact V.sub [2, 3, 4, 5, 6, 7, 1, 0] rfl (ihb1 _ (Option.some.inj h).symm)
            have J147 : ∀ (v7_j147 : Int) (v8_j147 : Int) (v9_j147 : Int) (t0_j147 : Int) (σ_j147 : St), f_X6_run_j147 (a0) (x1) (x4) (x5) (x6) v7_j147 v8_j147 v9_j147 t0_j147 σ_j147 = some z1 → V Γ σ_j147 0 0 147 [(0, .ref (a0)), (1, iv (x1)), (4, iv (x4)), (5, iv (x5)), (6, iv (x6)), (7, iv (v7_j147)), (8, iv (v8_j147)), (9, iv (v9_j147))] [iv (t0_j147)] := by
              intro v7_j147 v8_j147 v9_j147 t0_j147 σ_j147 h
              unfold f_X6_run_j147 at h
              refine r_istore X dX6_run_147 (hL 10 (by decide)) (lv' := [(10, iv (t0_j147)), (0, .ref (a0)), (1, iv (x1)), (4, iv (x4)), (5, iv (x5)), (6, iv (x6)), (7, iv (v7_j147)), (8, iv (v8_j147)), (9, iv (v9_j147))]) rfl ?_
              refine r_iload X 6 dX6_run_149 rfl ?_
              refine r_iload X 0 dX6_run_151 rfl ?_
              refine r_iadd X dX6_run_153 ?_
              refine r_istore X dX6_run_154 (hL 7 (by decide)) (lv' := [(7, iv ((v7_j147 + t0_j147))), (10, iv (t0_j147)), (0, .ref (a0)), (1, iv (x1)), (4, iv (x4)), (5, iv (x5)), (6, iv (x6)), (8, iv (v8_j147)), (9, iv (v9_j147))]) rfl ?_
              exact V.sub [2, 3, 4, 5, 6, 0, 7, 8, 1] rfl (J156 ((v7_j147 + t0_j147)) (v8_j147) (v9_j147) (t0_j147) (σ_j147) h)
            refine r_iload X 7 dX6_run_61 rfl ?_
            refine r_aload_n X 0 dX6_run_63 rfl rfl ?_
            obtain ⟨ho15, h⟩ := cO_some h
            refine r_getI (kf := 54) X ho15.1 rfl (by decide) rfl (Or.inl q1295) dX6_run_64 ?_
            refine r_icmp_ge (tgt := 178) X dX6_run_67 (by decide) h (fun c16 h => ?_) (fun c16 h => ?_)
            · refine r_iconst X dX6_run_70 ?_
              refine r_istore X dX6_run_71 (hL 10 (by decide)) (lv' := [(10, iv ((-1))), (0, .ref (a0)), (1, iv (x1)), (4, iv (x4)), (5, iv (x5)), (6, iv (x6)), (7, iv (v7_1)), (8, iv (v8_1)), (9, iv (v9_1))]) rfl ?_
              refine r_aload_n X 1 dX6_run_73 rfl rfl ?_
              refine r_iload_n X 2 dX6_run_74 rfl rfl ?_
              refine r_aload_n X 1 dX6_run_75 rfl rfl ?_
              refine r_getA (kf := 50) X ho15.1 rfl (by decide) (by decide) (Or.inl q1291) dX6_run_76 ?_
              refine r_iload X 8 dX6_run_79 rfl ?_
              refine r_iald X ho15.1 (ho15.2 50 (by decide)) rfl rfl rfl (by decide) dX6_run_81 h (fun h => ?_)
              refine r_aload_n X 1 dX6_run_82 rfl rfl ?_
              refine r_getA (kf := 51) X ho15.1 rfl (by decide) (by decide) (Or.inl q1292) dX6_run_83 ?_
              refine r_iload X 8 dX6_run_86 rfl ?_
              refine r_iald X ho15.1 (ho15.2 51 (by decide)) rfl rfl rfl (by decide) dX6_run_88 h (fun h => ?_)
              refine r_aload_n X 1 dX6_run_89 rfl rfl ?_
              refine r_getA (kf := 52) X ho15.1 rfl (by decide) (by decide) (Or.inl q1293) dX6_run_90 ?_
              refine r_iload X 8 dX6_run_93 rfl ?_
              refine r_iald X ho15.1 (ho15.2 52 (by decide)) rfl rfl rfl (by decide) dX6_run_95 h (fun h => ?_)
              refine r_aload_n X 1 dX6_run_96 rfl rfl ?_
              refine r_getA (kf := 53) X ho15.1 rfl (by decide) (by decide) (Or.inl q1294) dX6_run_97 ?_
              refine r_iload X 8 dX6_run_100 rfl ?_
              refine r_iald X ho15.1 (ho15.2 53 (by decide)) rfl rfl rfl (by decide) dX6_run_102 h (fun h => ?_)
              obtain ⟨r18, σ19, h17, h⟩ := bd2_some h
              refine r_cV (Wd := 0) X (fun l D sz => w_X6_answer l D sz h17) ho15.1 rfl q1682 qs83 q1680 q109 q1683 hy_X6_answer rfl dX6_run_103 rfl rfl (Nat.le_of_ble_eq_true rfl) ⟨Nat.le_of_ble_eq_true rfl, Nat.le_of_ble_eq_true rfl⟩ ⟨Nat.le_of_ble_eq_true rfl, Nat.le_of_ble_eq_true rfl⟩ ?_
              refine r_if_eq (tgt := 156) X dX6_run_106 (by decide) h (fun c20 h => ?_) (fun c20 h => ?_)
              · exact V.sub [1, 2, 3, 4, 5, 6, 7, 8, 0] rfl (J156 (v7_1) (v8_1) (v9_1) ((-1)) (σ19) h)
              · refine r_aload_n X 1 dX6_run_109 rfl rfl ?_
                obtain ⟨ho21, h⟩ := cO_some h
                refine r_getI (kf := 41) X ho21.1 rfl (by decide) rfl (Or.inl q1282) dX6_run_110 ?_
                refine r_aload_n X 1 dX6_run_113 rfl rfl ?_
                refine r_iload X 3 dX6_run_114 rfl ?_
                refine r_iconst X dX6_run_116 ?_
                refine r_iadd X dX6_run_117 ?_
                obtain ⟨r23, σ24, h22, h⟩ := bd2_some h
                refine r_cV (Wd := 1) X (fun l D sz => w_X6_draw l D sz h22) ho21.1 rfl q1852 qs96 q1850 q109 q1853 hy_X6_draw rfl dX6_run_118 rfl rfl (Nat.le_of_ble_eq_true rfl) ⟨Nat.le_of_ble_eq_true rfl, Nat.le_of_ble_eq_true rfl⟩ ⟨Nat.le_of_ble_eq_true rfl, Nat.le_of_ble_eq_true rfl⟩ ?_
                refine r_iadd X dX6_run_121 ?_
                refine r_istore X dX6_run_122 (hL 11 (by decide)) (lv' := [(11, iv (((gI (σ19) (a0) 41 0) + r23))), (10, iv ((-1))), (0, .ref (a0)), (1, iv (x1)), (4, iv (x4)), (5, iv (x5)), (6, iv (x6)), (7, iv (v7_1)), (8, iv (v8_1)), (9, iv (v9_1))]) rfl ?_
                refine r_aload_n X 2 dX6_run_124 rfl rfl ?_
                refine r_iload X 9 dX6_run_125 rfl ?_
                obtain ⟨ho26, h⟩ := cO_some h
                obtain ⟨r27, h25, h⟩ := bd_some h
                refine r_cV (Wd := 0) X (fun l D sz => w_X6_isEased l D sz h25) ho26.1 rfl q1858 qs97 q1856 q109 q1859 hy_X6_isEased rfl dX6_run_127 rfl rfl (Nat.le_of_ble_eq_true rfl) ⟨Nat.le_of_ble_eq_true rfl, Nat.le_of_ble_eq_true rfl⟩ ⟨Nat.le_of_ble_eq_true rfl, Nat.le_of_ble_eq_true rfl⟩ ?_
                refine r_if_eq (tgt := 145) X dX6_run_130 (by decide) h (fun c28 h => ?_) (fun c28 h => ?_)
                · refine r_iload X 0 dX6_run_145 rfl ?_
                  exact V.sub [2, 3, 4, 5, 6, 7, 8, 9] rfl (J147 (v7_1) (v8_1) (v9_1) (((gI (σ19) (a0) 41 0) + r23)) (σ24) h)
                · refine r_iconst X dX6_run_133 ?_
                  refine r_iload X 0 dX6_run_134 rfl ?_
                  refine r_iload X 5 dX6_run_136 rfl ?_
                  refine r_isub X dX6_run_138 ?_
                  obtain ⟨r30, h29, h⟩ := bd_some h
                  refine r_cS (Wd := 0) X (fun l D sz => w_J3_max l D sz h29) q1128 q1556 q115 q1129 hy_J3_max rfl dX6_run_139 rfl rfl (Nat.le_of_ble_eq_true rfl) ⟨Nat.le_of_ble_eq_true rfl, Nat.le_of_ble_eq_true rfl⟩ ⟨Nat.le_of_ble_eq_true rfl, Nat.le_of_ble_eq_true rfl⟩ ?_
                  refine r_goto (tgt := 147) X dX6_run_142 (by decide) ?_
                  exact V.sub [2, 3, 4, 5, 6, 7, 8, 9] rfl (J147 (v7_1) (v8_1) (v9_1) (r30) (σ24) h)
            · have h := ex_some h ihe1
              refine r_iload X 4 dX6_run_178 rfl ?_
              refine r_iconst X dX6_run_180 ?_
              refine r_icmp_ne (tgt := 189) X dX6_run_181 (by decide) h (fun c31 h => ?_) (fun c31 h => ?_)
              · refine r_iload X 5 dX6_run_184 rfl ?_
                refine r_goto (tgt := 191) X dX6_run_186 (by decide) ?_
                cases h
                exact r_iret X hr dX6_run_191
              · refine r_iload X 6 dX6_run_189 rfl ?_
                cases h
                exact r_iret X hr dX6_run_191
          exact V.sub [3, 4, 6, 7, 8, 2, 1, 0] rfl (L61 (0, (-1), 0, σ13) h)
theorem hy_X6_areYears : yX6_areYears.cls ≠ "java/lang/invoke/MethodHandle" ∧ yX6_areYears.cls ≠ "java/lang/invoke/VarHandle" ∧ (parseMethodDescriptor yX6_areYears.desc).map (fun d => d.parameters.length) = some 2 := by decide +kernel
set_option maxHeartbeats 4000000 in
theorem w_X6_areYears (l : Launch) (D : DD) (sz : Nat) {σ : St} {a0 : Nat} {x1 : Int} {x2 : Int} {w : Int} (h : f_X6_areYears σ a0 x1 x2 = some w) : Mt l yX6_areYears cX6_areYears 3 (some FieldType.boolean) ({ frames := 1, cells := 0, slots := 0, locals := 14 } : Room) D sz σ [.ref a0, iv (x1), iv (x2)] (.returned (some (iv w))) (σ) 0 0 := by
  refine Mt.of (by decide +kernel) (Nat.le_of_ble_eq_true rfl) ?_
  intro Γ X hr hnl hini hnoh
  have X : Cx Γ cX6_areYears "DayBoyModel" _ := X
  have hL : ∀ i, i < 3 → i < nLc Γ := fun i q => by rw [hnl]; exact q
  show V Γ σ 0 0 0 [(0, .ref (a0)), (1, iv (x1)), (2, iv (x2))] []
  unfold f_X6_areYears at h
  refine r_iload_n X 1 dX6_areYears_0 rfl rfl ?_
  refine r_iconst X dX6_areYears_1 ?_
  refine r_sipush X dX6_areYears_2 (by decide) ?_
  obtain ⟨r2, h1, h⟩ := bd_some h
  refine r_cS (Wd := 0) X (fun l D sz => w_X6_in l D sz h1) q1502 q1501 q109 q1503 hy_X6_in rfl dX6_areYears_5 rfl rfl (Nat.le_of_ble_eq_true rfl) ⟨Nat.le_of_ble_eq_true rfl, Nat.le_of_ble_eq_true rfl⟩ ⟨Nat.le_of_ble_eq_true rfl, Nat.le_of_ble_eq_true rfl⟩ ?_
  refine r_if_eq (tgt := 26) X dX6_areYears_8 (by decide) h (fun c3 h => ?_) (fun c3 h => ?_)
  · refine r_iconst X dX6_areYears_26 ?_
    cases h
    exact r_zret X hr (by decide) dX6_areYears_27
  · refine r_iload_n X 2 dX6_areYears_11 rfl rfl ?_
    refine r_iload_n X 1 dX6_areYears_12 rfl rfl ?_
    refine r_sipush X dX6_areYears_13 (by decide) ?_
    obtain ⟨r6, h5, h⟩ := bd_some h
    refine r_cS (Wd := 0) X (fun l D sz => w_X6_in l D sz h5) q1502 q1501 q109 q1503 hy_X6_in rfl dX6_areYears_16 rfl rfl (Nat.le_of_ble_eq_true rfl) ⟨Nat.le_of_ble_eq_true rfl, Nat.le_of_ble_eq_true rfl⟩ ⟨Nat.le_of_ble_eq_true rfl, Nat.le_of_ble_eq_true rfl⟩ ?_
    refine r_if_eq (tgt := 26) X dX6_areYears_19 (by decide) h (fun c7 h => ?_) (fun c7 h => ?_)
    · refine r_iconst X dX6_areYears_26 ?_
      cases h
      exact r_zret X hr (by decide) dX6_areYears_27
    · refine r_iconst X dX6_areYears_22 ?_
      refine r_goto (tgt := 27) X dX6_areYears_23 (by decide) ?_
      cases h
      exact r_zret X hr (by decide) dX6_areYears_27
theorem hy_X6_stepTrue : yX6_stepTrue.cls ≠ "java/lang/invoke/MethodHandle" ∧ yX6_stepTrue.cls ≠ "java/lang/invoke/VarHandle" ∧ (parseMethodDescriptor yX6_stepTrue.desc).map (fun d => d.parameters.length) = some 4 := by decide +kernel
set_option maxHeartbeats 4000000 in
theorem w_X6_stepTrue (l : Launch) (D : DD) (sz : Nat) {σ : St} {a0 : Nat} {x1 : Int} {x2 : Int} {x3 : Int} {x4 : Int} {w : Int} (h : f_X6_stepTrue σ a0 x1 x2 x3 x4 = some w) : Mt l yX6_stepTrue cX6_stepTrue 8 (some FieldType.int) ({ frames := 5, cells := 0, slots := 0, locals := 86 } : Room) D sz σ [.ref a0, iv (x1), iv (x2), iv (x3), iv (x4)] (.returned (some (iv w))) (σ) 0 0 := by
  refine Mt.of (by decide +kernel) (Nat.le_of_ble_eq_true rfl) ?_
  intro Γ X hr hnl hini hnoh
  have X : Cx Γ cX6_stepTrue "DayBoyModel" _ := X
  have hL : ∀ i, i < 8 → i < nLc Γ := fun i q => by rw [hnl]; exact q
  show V Γ σ 0 0 0 [(0, .ref (a0)), (1, iv (x1)), (2, iv (x2)), (3, iv (x3)), (4, iv (x4))] []
  unfold f_X6_stepTrue at h
  obtain ⟨ho0, h⟩ := cO_some h
  refine r_iconst X dX6_stepTrue_0 ?_
  refine r_istore X dX6_stepTrue_1 (hL 5 (by decide)) (lv' := [(5, iv (0)), (0, .ref (a0)), (1, iv (x1)), (2, iv (x2)), (3, iv (x3)), (4, iv (x4))]) rfl ?_
  refine r_iload_n X 4 dX6_stepTrue_3 rfl rfl ?_
  refine r_istore X dX6_stepTrue_4 (hL 6 (by decide)) (lv' := [(6, iv (x3)), (5, iv (0)), (0, .ref (a0)), (1, iv (x1)), (2, iv (x2)), (3, iv (x3)), (4, iv (x4))]) rfl ?_
  have L6 : ∀ s : Int × Int, lp (fun s => f_X6_stepTrue_b6 (σ) (a0) (x1) (x2) (x4) s.1 s.2) s = some w → V Γ (σ) 0 0 6 [(0, .ref (a0)), (1, iv (x1)), (2, iv (x2)), (4, iv (x4)), (5, iv (s.1)), (6, iv (s.2))] [] := by
    refine lp_rule (P := fun s : Int × Int => V Γ (σ) 0 0 6 [(0, .ref (a0)), (1, iv (x1)), (2, iv (x2)), (4, iv (x4)), (5, iv (s.1)), (6, iv (s.2))] []) ?_
    intro s z1 h ihb1 ihe1
    obtain ⟨v5_1, v6_1⟩ := s
    have h : f_X6_stepTrue_b6 (σ) (a0) (x1) (x2) (x4) v5_1 v6_1 = some z1 := h
    unfold f_X6_stepTrue_b6 at h
    show V Γ σ 0 0 6 [(0, .ref (a0)), (1, iv (x1)), (2, iv (x2)), (4, iv (x4)), (5, iv (v5_1)), (6, iv (v6_1))] []
    refine r_iload X 5 dX6_stepTrue_6 rfl ?_
    refine r_iload_n X 2 dX6_stepTrue_8 rfl rfl ?_
    refine r_iadd X dX6_stepTrue_9 ?_
    refine r_iload X 3 dX6_stepTrue_10 rfl ?_
    refine r_icmp_gt (tgt := 60) X dX6_stepTrue_12 (by decide) h (fun c1 h => ?_) (fun c1 h => ?_)
    · have h := ex_some h ihe1
      refine r_iload X 4 dX6_stepTrue_60 rfl ?_
      cases h
      exact r_iret X hr dX6_stepTrue_62
    · refine r_aload_n X 0 dX6_stepTrue_15 rfl rfl ?_
      refine r_iload_n X 1 dX6_stepTrue_16 rfl rfl ?_
      refine r_iload X 5 dX6_stepTrue_17 rfl ?_
      obtain ⟨r3, h2, h⟩ := bd_some h
      refine r_cV (Wd := 0) X (fun l D sz => w_X6_kindOf l D sz h2) ho0.1 rfl q1654 qs78 q1652 q109 q1655 hy_X6_kindOf rfl dX6_stepTrue_19 rfl rfl (Nat.le_of_ble_eq_true rfl) ⟨Nat.le_of_ble_eq_true rfl, Nat.le_of_ble_eq_true rfl⟩ ⟨Nat.le_of_ble_eq_true rfl, Nat.le_of_ble_eq_true rfl⟩ ?_
      refine r_istore X dX6_stepTrue_22 (hL 7 (by decide)) (lv' := [(7, iv (r3)), (0, .ref (a0)), (1, iv (x1)), (2, iv (x2)), (4, iv (x4)), (5, iv (v5_1)), (6, iv (v6_1))]) rfl ?_
      refine r_iload X 5 dX6_stepTrue_24 rfl ?_
      refine r_iload X 0 dX6_stepTrue_26 rfl ?_
      refine r_iconst X dX6_stepTrue_28 ?_
      refine r_icmp_eq (tgt := 50) X dX6_stepTrue_29 (by decide) h (fun c4 h => ?_) (fun c4 h => ?_)
      · refine r_iconst X dX6_stepTrue_50 ?_
        refine r_iadd X dX6_stepTrue_51 ?_
        refine r_istore X dX6_stepTrue_52 (hL 5 (by decide)) (lv' := [(5, iv ((v5_1 + 0))), (7, iv (r3)), (0, .ref (a0)), (1, iv (x1)), (2, iv (x2)), (4, iv (x4)), (6, iv (v6_1))]) rfl ?_
        refine r_iinc X 6 dX6_stepTrue_54 rfl (hL 6 (by decide)) (lv' := [(6, iv ((v6_1 + 1))), (5, iv ((v5_1 + 0))), (7, iv (r3)), (0, .ref (a0)), (1, iv (x1)), (2, iv (x2)), (4, iv (x4))]) rfl ?_
        refine r_goto (tgt := 6) X dX6_stepTrue_57 (by decide) ?_
        exact V.sub [3, 4, 5, 6, 1, 0] rfl (ihb1 _ (Option.some.inj h).symm)
      · refine r_iload X 0 dX6_stepTrue_32 rfl ?_
        refine r_aload_n X 1 dX6_stepTrue_34 rfl rfl ?_
        refine r_iload_n X 2 dX6_stepTrue_35 rfl rfl ?_
        refine r_iload X 6 dX6_stepTrue_36 rfl ?_
        refine r_iload_n X 3 dX6_stepTrue_38 rfl rfl ?_
        refine r_iadd X dX6_stepTrue_39 ?_
        obtain ⟨r6, h5, h⟩ := bd_some h
        refine r_cV (Wd := 2) X (fun l D sz => w_X6_kindOf l D sz h5) ho0.1 rfl q1654 qs78 q1652 q109 q1655 hy_X6_kindOf rfl dX6_stepTrue_40 rfl rfl (Nat.le_of_ble_eq_true rfl) ⟨Nat.le_of_ble_eq_true rfl, Nat.le_of_ble_eq_true rfl⟩ ⟨Nat.le_of_ble_eq_true rfl, Nat.le_of_ble_eq_true rfl⟩ ?_
        refine r_icmp_ne (tgt := 50) X dX6_stepTrue_43 (by decide) h (fun c7 h => ?_) (fun c7 h => ?_)
        · refine r_iconst X dX6_stepTrue_46 ?_
          refine r_goto (tgt := 51) X dX6_stepTrue_47 (by decide) ?_
          refine r_iadd X dX6_stepTrue_51 ?_
          refine r_istore X dX6_stepTrue_52 (hL 5 (by decide)) (lv' := [(5, iv ((v5_1 + 1))), (7, iv (r3)), (0, .ref (a0)), (1, iv (x1)), (2, iv (x2)), (4, iv (x4)), (6, iv (v6_1))]) rfl ?_
          refine r_iinc X 6 dX6_stepTrue_54 rfl (hL 6 (by decide)) (lv' := [(6, iv ((v6_1 + 1))), (5, iv ((v5_1 + 1))), (7, iv (r3)), (0, .ref (a0)), (1, iv (x1)), (2, iv (x2)), (4, iv (x4))]) rfl ?_
          refine r_goto (tgt := 6) X dX6_stepTrue_57 (by decide) ?_
          exact V.sub [3, 4, 5, 6, 1, 0] rfl (ihb1 _ (Option.some.inj h).symm)
        · refine r_iconst X dX6_stepTrue_50 ?_
          refine r_iadd X dX6_stepTrue_51 ?_
          refine r_istore X dX6_stepTrue_52 (hL 5 (by decide)) (lv' := [(5, iv ((v5_1 + 0))), (7, iv (r3)), (0, .ref (a0)), (1, iv (x1)), (2, iv (x2)), (4, iv (x4)), (6, iv (v6_1))]) rfl ?_
          refine r_iinc X 6 dX6_stepTrue_54 rfl (hL 6 (by decide)) (lv' := [(6, iv ((v6_1 + 1))), (5, iv ((v5_1 + 0))), (7, iv (r3)), (0, .ref (a0)), (1, iv (x1)), (2, iv (x2)), (4, iv (x4))]) rfl ?_
          refine r_goto (tgt := 6) X dX6_stepTrue_57 (by decide) ?_
          exact V.sub [3, 4, 5, 6, 1, 0] rfl (ihb1 _ (Option.some.inj h).symm)
  exact V.sub [2, 3, 4, 6, 1, 0] rfl (L6 (0, x3) h)
theorem hy_X6_monthsTrue : yX6_monthsTrue.cls ≠ "java/lang/invoke/MethodHandle" ∧ yX6_monthsTrue.cls ≠ "java/lang/invoke/VarHandle" ∧ (parseMethodDescriptor yX6_monthsTrue.desc).map (fun d => d.parameters.length) = some 5 := by decide +kernel
set_option maxHeartbeats 4000000 in
theorem w_X6_monthsTrue (l : Launch) (D : DD) (sz : Nat) {σ : St} {a0 : Nat} {x1 : Int} {x2 : Int} {x3 : Int} {x4 : Int} {x5 : Int} {w : Int} (h : f_X6_monthsTrue σ a0 x1 x2 x3 x4 x5 = some w) : Mt l yX6_monthsTrue cX6_monthsTrue 8 (some FieldType.int) ({ frames := 4, cells := 0, slots := 0, locals := 70 } : Room) D sz σ [.ref a0, iv (x1), iv (x2), iv (x3), iv (x4), iv (x5)] (.returned (some (iv w))) (σ) 0 0 := by
  refine Mt.of (by decide +kernel) (Nat.le_of_ble_eq_true rfl) ?_
  intro Γ X hr hnl hini hnoh
  have X : Cx Γ cX6_monthsTrue "DayBoyModel" _ := X
  have hL : ∀ i, i < 8 → i < nLc Γ := fun i q => by rw [hnl]; exact q
  show V Γ σ 0 0 0 [(0, .ref (a0)), (1, iv (x1)), (2, iv (x2)), (3, iv (x3)), (4, iv (x4)), (5, iv (x5))] []
  unfold f_X6_monthsTrue at h
  obtain ⟨ho0, h⟩ := cO_some h
  refine r_iconst X dX6_monthsTrue_0 ?_
  refine r_istore X dX6_monthsTrue_1 (hL 6 (by decide)) (lv' := [(6, iv (0)), (0, .ref (a0)), (1, iv (x1)), (2, iv (x2)), (3, iv (x3)), (4, iv (x4)), (5, iv (x5))]) rfl ?_
  refine r_iload X 5 dX6_monthsTrue_3 rfl ?_
  refine r_istore X dX6_monthsTrue_5 (hL 7 (by decide)) (lv' := [(7, iv (x4)), (6, iv (0)), (0, .ref (a0)), (1, iv (x1)), (2, iv (x2)), (3, iv (x3)), (4, iv (x4)), (5, iv (x5))]) rfl ?_
  have L7 : ∀ s : Int × Int, lp (fun s => f_X6_monthsTrue_b7 (σ) (a0) (x1) (x2) (x3) (x5) s.1 s.2) s = some w → V Γ (σ) 0 0 7 [(0, .ref (a0)), (1, iv (x1)), (2, iv (x2)), (3, iv (x3)), (5, iv (x5)), (6, iv (s.1)), (7, iv (s.2))] [] := by
    refine lp_rule (P := fun s : Int × Int => V Γ (σ) 0 0 7 [(0, .ref (a0)), (1, iv (x1)), (2, iv (x2)), (3, iv (x3)), (5, iv (x5)), (6, iv (s.1)), (7, iv (s.2))] []) ?_
    intro s z1 h ihb1 ihe1
    obtain ⟨v6_1, v7_1⟩ := s
    have h : f_X6_monthsTrue_b7 (σ) (a0) (x1) (x2) (x3) (x5) v6_1 v7_1 = some z1 := h
    unfold f_X6_monthsTrue_b7 at h
    show V Γ σ 0 0 7 [(0, .ref (a0)), (1, iv (x1)), (2, iv (x2)), (3, iv (x3)), (5, iv (x5)), (6, iv (v6_1)), (7, iv (v7_1))] []
    refine r_iload X 6 dX6_monthsTrue_7 rfl ?_
    refine r_iload X 4 dX6_monthsTrue_9 rfl ?_
    refine r_icmp_gt (tgt := 81) X dX6_monthsTrue_11 (by decide) h (fun c1 h => ?_) (fun c1 h => ?_)
    · have h := ex_some h ihe1
      refine r_iload X 5 dX6_monthsTrue_81 rfl ?_
      cases h
      exact r_iret X hr dX6_monthsTrue_83
    · refine r_iload X 5 dX6_monthsTrue_14 rfl ?_
      refine r_aload_n X 0 dX6_monthsTrue_16 rfl rfl ?_
      refine r_iload_n X 1 dX6_monthsTrue_17 rfl rfl ?_
      refine r_iload X 6 dX6_monthsTrue_18 rfl ?_
      refine r_iload_n X 2 dX6_monthsTrue_20 rfl rfl ?_
      refine r_iconst X dX6_monthsTrue_21 ?_
      obtain ⟨r3, h2, h⟩ := bd_some h
      refine r_cV (Wd := 1) X (fun l D sz => w_X6_isDate l D sz h2) ho0.1 rfl q1614 qs73 q1612 q109 q1615 hy_X6_isDate rfl dX6_monthsTrue_22 rfl rfl (Nat.le_of_ble_eq_true rfl) ⟨Nat.le_of_ble_eq_true rfl, Nat.le_of_ble_eq_true rfl⟩ ⟨Nat.le_of_ble_eq_true rfl, Nat.le_of_ble_eq_true rfl⟩ ?_
      refine r_if_eq (tgt := 71) X dX6_monthsTrue_25 (by decide) h (fun c4 h => ?_) (fun c4 h => ?_)
      · refine r_iconst X dX6_monthsTrue_71 ?_
        refine r_iadd X dX6_monthsTrue_72 ?_
        refine r_istore X dX6_monthsTrue_73 (hL 6 (by decide)) (lv' := [(6, iv ((v6_1 + 0))), (0, .ref (a0)), (1, iv (x1)), (2, iv (x2)), (3, iv (x3)), (5, iv (x5)), (7, iv (v7_1))]) rfl ?_
        refine r_iinc X 6 dX6_monthsTrue_75 rfl (hL 7 (by decide)) (lv' := [(7, iv ((v7_1 + 1))), (6, iv ((v6_1 + 0))), (0, .ref (a0)), (1, iv (x1)), (2, iv (x2)), (3, iv (x3)), (5, iv (x5))]) rfl ?_
        refine r_goto (tgt := 7) X dX6_monthsTrue_78 (by decide) ?_
        exact V.sub [2, 3, 4, 5, 6, 1, 0] rfl (ihb1 _ (Option.some.inj h).symm)
      · refine r_aload_n X 0 dX6_monthsTrue_28 rfl rfl ?_
        refine r_iload_n X 1 dX6_monthsTrue_29 rfl rfl ?_
        refine r_iload X 6 dX6_monthsTrue_30 rfl ?_
        refine r_iload_n X 3 dX6_monthsTrue_32 rfl rfl ?_
        refine r_iconst X dX6_monthsTrue_33 ?_
        obtain ⟨r6, h5, h⟩ := bd_some h
        refine r_cV (Wd := 1) X (fun l D sz => w_X6_isDate l D sz h5) ho0.1 rfl q1614 qs73 q1612 q109 q1615 hy_X6_isDate rfl dX6_monthsTrue_34 rfl rfl (Nat.le_of_ble_eq_true rfl) ⟨Nat.le_of_ble_eq_true rfl, Nat.le_of_ble_eq_true rfl⟩ ⟨Nat.le_of_ble_eq_true rfl, Nat.le_of_ble_eq_true rfl⟩ ?_
        refine r_if_eq (tgt := 71) X dX6_monthsTrue_37 (by decide) h (fun c7 h => ?_) (fun c7 h => ?_)
        · refine r_iconst X dX6_monthsTrue_71 ?_
          refine r_iadd X dX6_monthsTrue_72 ?_
          refine r_istore X dX6_monthsTrue_73 (hL 6 (by decide)) (lv' := [(6, iv ((v6_1 + 0))), (0, .ref (a0)), (1, iv (x1)), (2, iv (x2)), (3, iv (x3)), (5, iv (x5)), (7, iv (v7_1))]) rfl ?_
          refine r_iinc X 6 dX6_monthsTrue_75 rfl (hL 7 (by decide)) (lv' := [(7, iv ((v7_1 + 1))), (6, iv ((v6_1 + 0))), (0, .ref (a0)), (1, iv (x1)), (2, iv (x2)), (3, iv (x3)), (5, iv (x5))]) rfl ?_
          refine r_goto (tgt := 7) X dX6_monthsTrue_78 (by decide) ?_
          exact V.sub [2, 3, 4, 5, 6, 1, 0] rfl (ihb1 _ (Option.some.inj h).symm)
        · refine r_aload_n X 0 dX6_monthsTrue_40 rfl rfl ?_
          refine r_iload_n X 1 dX6_monthsTrue_41 rfl rfl ?_
          refine r_iload X 6 dX6_monthsTrue_42 rfl ?_
          refine r_iload_n X 2 dX6_monthsTrue_44 rfl rfl ?_
          refine r_iconst X dX6_monthsTrue_45 ?_
          obtain ⟨r9, h8, h⟩ := bd_some h
          refine r_cV (Wd := 1) X (fun l D sz => w_X6_dayOf l D sz h8) ho0.1 rfl q1626 qs76 q1624 q109 q1627 hy_X6_dayOf rfl dX6_monthsTrue_46 rfl rfl (Nat.le_of_ble_eq_true rfl) ⟨Nat.le_of_ble_eq_true rfl, Nat.le_of_ble_eq_true rfl⟩ ⟨Nat.le_of_ble_eq_true rfl, Nat.le_of_ble_eq_true rfl⟩ ?_
          refine r_bipush X dX6_monthsTrue_49 (by decide) ?_
          obtain ⟨c10, h⟩ := ck_some h
          refine r_irem X dX6_monthsTrue_51 c10 (by decide) (by decide) ?_
          refine r_aload_n X 0 dX6_monthsTrue_52 rfl rfl ?_
          refine r_iload_n X 1 dX6_monthsTrue_53 rfl rfl ?_
          refine r_iload X 6 dX6_monthsTrue_54 rfl ?_
          refine r_iload_n X 3 dX6_monthsTrue_56 rfl rfl ?_
          refine r_iconst X dX6_monthsTrue_57 ?_
          obtain ⟨r12, h11, h⟩ := bd_some h
          refine r_cV (Wd := 2) X (fun l D sz => w_X6_dayOf l D sz h11) ho0.1 rfl q1626 qs76 q1624 q109 q1627 hy_X6_dayOf rfl dX6_monthsTrue_58 rfl rfl (Nat.le_of_ble_eq_true rfl) ⟨Nat.le_of_ble_eq_true rfl, Nat.le_of_ble_eq_true rfl⟩ ⟨Nat.le_of_ble_eq_true rfl, Nat.le_of_ble_eq_true rfl⟩ ?_
          refine r_bipush X dX6_monthsTrue_61 (by decide) ?_
          obtain ⟨c13, h⟩ := ck_some h
          refine r_irem X dX6_monthsTrue_63 c13 (by decide) (by decide) ?_
          refine r_icmp_ne (tgt := 71) X dX6_monthsTrue_64 (by decide) h (fun c14 h => ?_) (fun c14 h => ?_)
          · refine r_iconst X dX6_monthsTrue_67 ?_
            refine r_goto (tgt := 72) X dX6_monthsTrue_68 (by decide) ?_
            refine r_iadd X dX6_monthsTrue_72 ?_
            refine r_istore X dX6_monthsTrue_73 (hL 6 (by decide)) (lv' := [(6, iv ((v6_1 + 1))), (0, .ref (a0)), (1, iv (x1)), (2, iv (x2)), (3, iv (x3)), (5, iv (x5)), (7, iv (v7_1))]) rfl ?_
            refine r_iinc X 6 dX6_monthsTrue_75 rfl (hL 7 (by decide)) (lv' := [(7, iv ((v7_1 + 1))), (6, iv ((v6_1 + 1))), (0, .ref (a0)), (1, iv (x1)), (2, iv (x2)), (3, iv (x3)), (5, iv (x5))]) rfl ?_
            refine r_goto (tgt := 7) X dX6_monthsTrue_78 (by decide) ?_
            exact V.sub [2, 3, 4, 5, 6, 1, 0] rfl (ihb1 _ (Option.some.inj h).symm)
          · refine r_iconst X dX6_monthsTrue_71 ?_
            refine r_iadd X dX6_monthsTrue_72 ?_
            refine r_istore X dX6_monthsTrue_73 (hL 6 (by decide)) (lv' := [(6, iv ((v6_1 + 0))), (0, .ref (a0)), (1, iv (x1)), (2, iv (x2)), (3, iv (x3)), (5, iv (x5)), (7, iv (v7_1))]) rfl ?_
            refine r_iinc X 6 dX6_monthsTrue_75 rfl (hL 7 (by decide)) (lv' := [(7, iv ((v7_1 + 1))), (6, iv ((v6_1 + 0))), (0, .ref (a0)), (1, iv (x1)), (2, iv (x2)), (3, iv (x3)), (5, iv (x5))]) rfl ?_
            refine r_goto (tgt := 7) X dX6_monthsTrue_78 (by decide) ?_
            exact V.sub [2, 3, 4, 5, 6, 1, 0] rfl (ihb1 _ (Option.some.inj h).symm)
  exact V.sub [2, 3, 4, 5, 7, 1, 0] rfl (L7 (0, x4) h)
theorem hy_X6_holds : yX6_holds.cls ≠ "java/lang/invoke/MethodHandle" ∧ yX6_holds.cls ≠ "java/lang/invoke/VarHandle" ∧ (parseMethodDescriptor yX6_holds.desc).map (fun d => d.parameters.length) = some 6 := by decide +kernel
set_option maxHeartbeats 4000000 in
theorem w_X6_holds (l : Launch) (D : DD) (sz : Nat) {σ : St} {a0 : Nat} {x1 : Int} {x2 : Int} {x3 : Int} {x4 : Int} {x5 : Int} {x6 : Int} {w : Int} (h : f_X6_holds σ a0 x1 x2 x3 x4 x5 x6 = some w) : Mt l yX6_holds cX6_holds 7 (some FieldType.int) ({ frames := 6, cells := 0, slots := 0, locals := 105 } : Room) D sz σ [.ref a0, iv (x1), iv (x2), iv (x3), iv (x4), iv (x5), iv (x6)] (.returned (some (iv w))) (σ) 0 0 := by
  refine Mt.of (by decide +kernel) (Nat.le_of_ble_eq_true rfl) ?_
  intro Γ X hr hnl hini hnoh
  have X : Cx Γ cX6_holds "DayBoyModel" _ := X
  have hL : ∀ i, i < 7 → i < nLc Γ := fun i q => by rw [hnl]; exact q
  show V Γ σ 0 0 0 [(0, .ref (a0)), (1, iv (x1)), (2, iv (x2)), (3, iv (x3)), (4, iv (x4)), (5, iv (x5)), (6, iv (x6))] []
  unfold f_X6_holds at h
  obtain ⟨ho0, h⟩ := cO_some h
  refine r_aload_n X 0 dX6_holds_0 rfl rfl ?_
  refine r_iload_n X 1 dX6_holds_1 rfl rfl ?_
  obtain ⟨r2, h1, h⟩ := bd_some h
  refine r_cV (Wd := 0) X (fun l D sz => w_X6_isHead l D sz h1) ho0.1 rfl q1662 qs79 q1660 q109 q1663 hy_X6_isHead rfl dX6_holds_2 rfl rfl (Nat.le_of_ble_eq_true rfl) ⟨Nat.le_of_ble_eq_true rfl, Nat.le_of_ble_eq_true rfl⟩ ⟨Nat.le_of_ble_eq_true rfl, Nat.le_of_ble_eq_true rfl⟩ ?_
  refine r_if_eq (tgt := 27) X dX6_holds_5 (by decide) h (fun c3 h => ?_) (fun c3 h => ?_)
  · refine r_iconst X dX6_holds_27 ?_
    cases h
    exact r_iret X hr dX6_holds_28
  · refine r_aload_n X 0 dX6_holds_8 rfl rfl ?_
    refine r_iload_n X 2 dX6_holds_9 rfl rfl ?_
    obtain ⟨r5, h4, h⟩ := bd_some h
    refine r_cV (Wd := 0) X (fun l D sz => w_X6_isCalendar l D sz h4) ho0.1 rfl q1622 qs75 q1620 q109 q1623 hy_X6_isCalendar rfl dX6_holds_10 rfl rfl (Nat.le_of_ble_eq_true rfl) ⟨Nat.le_of_ble_eq_true rfl, Nat.le_of_ble_eq_true rfl⟩ ⟨Nat.le_of_ble_eq_true rfl, Nat.le_of_ble_eq_true rfl⟩ ?_
    refine r_if_eq (tgt := 27) X dX6_holds_13 (by decide) h (fun c6 h => ?_) (fun c6 h => ?_)
    · refine r_iconst X dX6_holds_27 ?_
      cases h
      exact r_iret X hr dX6_holds_28
    · refine r_aload_n X 0 dX6_holds_16 rfl rfl ?_
      refine r_iload X 5 dX6_holds_17 rfl ?_
      refine r_iload X 6 dX6_holds_19 rfl ?_
      obtain ⟨r8, h7, h⟩ := bd_some h
      refine r_cV (Wd := 0) X (fun l D sz => w_X6_areYears l D sz h7) ho0.1 rfl q1866 qs98 q1864 q109 q1867 hy_X6_areYears rfl dX6_holds_21 rfl rfl (Nat.le_of_ble_eq_true rfl) ⟨Nat.le_of_ble_eq_true rfl, Nat.le_of_ble_eq_true rfl⟩ ⟨Nat.le_of_ble_eq_true rfl, Nat.le_of_ble_eq_true rfl⟩ ?_
      refine r_if_ne (tgt := 29) X dX6_holds_24 (by decide) h (fun c9 h => ?_) (fun c9 h => ?_)
      · refine r_iconst X dX6_holds_27 ?_
        cases h
        exact r_iret X hr dX6_holds_28
      · refine r_iload_n X 3 dX6_holds_29 rfl rfl ?_
        refine r_if_ne (tgt := 76) X dX6_holds_30 (by decide) h (fun c10 h => ?_) (fun c10 h => ?_)
        · refine r_iload X 4 dX6_holds_33 rfl ?_
          refine r_iconst X dX6_holds_35 ?_
          refine r_aload_n X 0 dX6_holds_36 rfl rfl ?_
          refine r_getA (kf := 18) X ho0.1 rfl (by decide) (by decide) (Or.inl q1259) dX6_holds_37 ?_
          refine r_iload_n X 1 dX6_holds_40 rfl rfl ?_
          refine r_iald X ho0.1 (ho0.2 18 (by decide)) rfl rfl rfl (by decide) dX6_holds_41 h (fun h => ?_)
          refine r_iconst X dX6_holds_42 ?_
          refine r_isub X dX6_holds_43 ?_
          obtain ⟨r12, h11, h⟩ := bd_some h
          refine r_cS (Wd := 0) X (fun l D sz => w_X6_in l D sz h11) q1502 q1501 q109 q1503 hy_X6_in rfl dX6_holds_44 rfl rfl (Nat.le_of_ble_eq_true rfl) ⟨Nat.le_of_ble_eq_true rfl, Nat.le_of_ble_eq_true rfl⟩ ⟨Nat.le_of_ble_eq_true rfl, Nat.le_of_ble_eq_true rfl⟩ ?_
          refine r_if_eq (tgt := 74) X dX6_holds_47 (by decide) h (fun c13 h => ?_) (fun c13 h => ?_)
          · refine r_iconst X dX6_holds_74 ?_
            cases h
            exact r_iret X hr dX6_holds_75
          · refine r_aload_n X 0 dX6_holds_50 rfl rfl ?_
            refine r_iload_n X 2 dX6_holds_51 rfl rfl ?_
            refine r_aload_n X 0 dX6_holds_52 rfl rfl ?_
            refine r_getA (kf := 19) X ho0.1 rfl (by decide) (by decide) (Or.inl q1260) dX6_holds_53 ?_
            refine r_bipush X dX6_holds_56 (by decide) ?_
            refine r_iload_n X 1 dX6_holds_58 rfl rfl ?_
            refine r_imul X dX6_holds_59 ?_
            refine r_iload X 4 dX6_holds_60 rfl ?_
            refine r_iadd X dX6_holds_62 ?_
            refine r_iald X ho0.1 (ho0.2 19 (by decide)) rfl rfl rfl (by decide) dX6_holds_63 h (fun h => ?_)
            refine r_iload X 5 dX6_holds_64 rfl ?_
            refine r_iload X 6 dX6_holds_66 rfl ?_
            obtain ⟨r15, h14, h⟩ := bd_some h
            refine r_cV (Wd := 0) X (fun l D sz => w_X6_stepTrue l D sz h14) ho0.1 rfl q1870 qs99 q1868 q109 q1871 hy_X6_stepTrue rfl dX6_holds_68 rfl rfl (Nat.le_of_ble_eq_true rfl) ⟨Nat.le_of_ble_eq_true rfl, Nat.le_of_ble_eq_true rfl⟩ ⟨Nat.le_of_ble_eq_true rfl, Nat.le_of_ble_eq_true rfl⟩ ?_
            refine r_goto (tgt := 75) X dX6_holds_71 (by decide) ?_
            cases h
            exact r_iret X hr dX6_holds_75
        · refine r_iload_n X 3 dX6_holds_76 rfl rfl ?_
          refine r_iconst X dX6_holds_77 ?_
          refine r_icmp_ne (tgt := 134) X dX6_holds_78 (by decide) h (fun c16 h => ?_) (fun c16 h => ?_)
          · refine r_iload X 4 dX6_holds_81 rfl ?_
            refine r_iconst X dX6_holds_83 ?_
            refine r_aload_n X 0 dX6_holds_84 rfl rfl ?_
            refine r_getA (kf := 21) X ho0.1 rfl (by decide) (by decide) (Or.inl q1262) dX6_holds_85 ?_
            refine r_iload_n X 1 dX6_holds_88 rfl rfl ?_
            refine r_iald X ho0.1 (ho0.2 21 (by decide)) rfl rfl rfl (by decide) dX6_holds_89 h (fun h => ?_)
            refine r_iconst X dX6_holds_90 ?_
            refine r_isub X dX6_holds_91 ?_
            obtain ⟨r18, h17, h⟩ := bd_some h
            refine r_cS (Wd := 0) X (fun l D sz => w_X6_in l D sz h17) q1502 q1501 q109 q1503 hy_X6_in rfl dX6_holds_92 rfl rfl (Nat.le_of_ble_eq_true rfl) ⟨Nat.le_of_ble_eq_true rfl, Nat.le_of_ble_eq_true rfl⟩ ⟨Nat.le_of_ble_eq_true rfl, Nat.le_of_ble_eq_true rfl⟩ ?_
            refine r_if_eq (tgt := 134) X dX6_holds_95 (by decide) h (fun c19 h => ?_) (fun c19 h => ?_)
            · refine r_iconst X dX6_holds_134 ?_
              cases h
              exact r_iret X hr dX6_holds_135
            · refine r_aload_n X 0 dX6_holds_98 rfl rfl ?_
              refine r_iload_n X 2 dX6_holds_99 rfl rfl ?_
              refine r_aload_n X 0 dX6_holds_100 rfl rfl ?_
              refine r_getA (kf := 22) X ho0.1 rfl (by decide) (by decide) (Or.inl q1263) dX6_holds_101 ?_
              refine r_bipush X dX6_holds_104 (by decide) ?_
              refine r_iload_n X 1 dX6_holds_106 rfl rfl ?_
              refine r_imul X dX6_holds_107 ?_
              refine r_iload X 4 dX6_holds_108 rfl ?_
              refine r_iadd X dX6_holds_110 ?_
              refine r_iald X ho0.1 (ho0.2 22 (by decide)) rfl rfl rfl (by decide) dX6_holds_111 h (fun h => ?_)
              refine r_aload_n X 0 dX6_holds_112 rfl rfl ?_
              refine r_getA (kf := 23) X ho0.1 rfl (by decide) (by decide) (Or.inl q1264) dX6_holds_113 ?_
              refine r_bipush X dX6_holds_116 (by decide) ?_
              refine r_iload_n X 1 dX6_holds_118 rfl rfl ?_
              refine r_imul X dX6_holds_119 ?_
              refine r_iload X 4 dX6_holds_120 rfl ?_
              refine r_iadd X dX6_holds_122 ?_
              refine r_iald X ho0.1 (ho0.2 23 (by decide)) rfl rfl rfl (by decide) dX6_holds_123 h (fun h => ?_)
              refine r_iload X 5 dX6_holds_124 rfl ?_
              refine r_iload X 6 dX6_holds_126 rfl ?_
              obtain ⟨r21, h20, h⟩ := bd_some h
              refine r_cV (Wd := 0) X (fun l D sz => w_X6_monthsTrue l D sz h20) ho0.1 rfl q1874 qs100 q1872 q109 q1875 hy_X6_monthsTrue rfl dX6_holds_128 rfl rfl (Nat.le_of_ble_eq_true rfl) ⟨Nat.le_of_ble_eq_true rfl, Nat.le_of_ble_eq_true rfl⟩ ⟨Nat.le_of_ble_eq_true rfl, Nat.le_of_ble_eq_true rfl⟩ ?_
              refine r_goto (tgt := 135) X dX6_holds_131 (by decide) ?_
              cases h
              exact r_iret X hr dX6_holds_135
          · refine r_iconst X dX6_holds_134 ?_
            cases h
            exact r_iret X hr dX6_holds_135
theorem hy_X6_right : yX6_right.cls ≠ "java/lang/invoke/MethodHandle" ∧ yX6_right.cls ≠ "java/lang/invoke/VarHandle" ∧ (parseMethodDescriptor yX6_right.desc).map (fun d => d.parameters.length) = some 4 := by decide +kernel
set_option maxHeartbeats 4000000 in
theorem w_X6_right (l : Launch) (D : DD) (sz : Nat) {σ : St} {a0 : Nat} {x1 : Int} {x2 : Int} {x3 : Int} {x4 : Int} {w : Int × St} (h : f_X6_right σ a0 x1 x2 x3 x4 = some w) : Mt l yX6_right cX6_right 9 (some FieldType.int) ({ frames := 6, cells := 0, slots := 0, locals := 101 } : Room) D sz σ [.ref a0, iv (x1), iv (x2), iv (x3), iv (x4)] (.returned (some (iv w.1))) (w.2) 0 0 := by
  refine Mt.of (by decide +kernel) (Nat.le_of_ble_eq_true rfl) ?_
  intro Γ X hr hnl hini hnoh
  have X : Cx Γ cX6_right "DayBoyModel" _ := X
  have hL : ∀ i, i < 9 → i < nLc Γ := fun i q => by rw [hnl]; exact q
  show V Γ σ 0 0 0 [(0, .ref (a0)), (1, iv (x1)), (2, iv (x2)), (3, iv (x3)), (4, iv (x4))] []
  unfold f_X6_right at h
  obtain ⟨ho0, h⟩ := cO_some h
  refine r_aload_n X 0 dX6_right_0 rfl rfl ?_
  refine r_iload_n X 1 dX6_right_1 rfl rfl ?_
  obtain ⟨r2, h1, h⟩ := bd_some h
  refine r_cV (Wd := 0) X (fun l D sz => w_X6_isHead l D sz h1) ho0.1 rfl q1662 qs79 q1660 q109 q1663 hy_X6_isHead rfl dX6_right_2 rfl rfl (Nat.le_of_ble_eq_true rfl) ⟨Nat.le_of_ble_eq_true rfl, Nat.le_of_ble_eq_true rfl⟩ ⟨Nat.le_of_ble_eq_true rfl, Nat.le_of_ble_eq_true rfl⟩ ?_
  refine r_if_eq (tgt := 37) X dX6_right_5 (by decide) h (fun c3 h => ?_) (fun c3 h => ?_)
  · refine r_iconst X dX6_right_37 ?_
    cases h
    exact r_iret X hr dX6_right_38
  · refine r_aload_n X 0 dX6_right_8 rfl rfl ?_
    refine r_iload_n X 2 dX6_right_9 rfl rfl ?_
    obtain ⟨r5, h4, h⟩ := bd_some h
    refine r_cV (Wd := 0) X (fun l D sz => w_X6_isCalendar l D sz h4) ho0.1 rfl q1622 qs75 q1620 q109 q1623 hy_X6_isCalendar rfl dX6_right_10 rfl rfl (Nat.le_of_ble_eq_true rfl) ⟨Nat.le_of_ble_eq_true rfl, Nat.le_of_ble_eq_true rfl⟩ ⟨Nat.le_of_ble_eq_true rfl, Nat.le_of_ble_eq_true rfl⟩ ?_
    refine r_if_eq (tgt := 37) X dX6_right_13 (by decide) h (fun c6 h => ?_) (fun c6 h => ?_)
    · refine r_iconst X dX6_right_37 ?_
      cases h
      exact r_iret X hr dX6_right_38
    · refine r_iload_n X 3 dX6_right_16 rfl rfl ?_
      refine r_iconst X dX6_right_17 ?_
      refine r_sipush X dX6_right_18 (by decide) ?_
      obtain ⟨r8, h7, h⟩ := bd_some h
      refine r_cS (Wd := 0) X (fun l D sz => w_X6_in l D sz h7) q1502 q1501 q109 q1503 hy_X6_in rfl dX6_right_21 rfl rfl (Nat.le_of_ble_eq_true rfl) ⟨Nat.le_of_ble_eq_true rfl, Nat.le_of_ble_eq_true rfl⟩ ⟨Nat.le_of_ble_eq_true rfl, Nat.le_of_ble_eq_true rfl⟩ ?_
      refine r_if_eq (tgt := 37) X dX6_right_24 (by decide) h (fun c9 h => ?_) (fun c9 h => ?_)
      · refine r_iconst X dX6_right_37 ?_
        cases h
        exact r_iret X hr dX6_right_38
      · refine r_iload X 4 dX6_right_27 rfl ?_
        refine r_iconst X dX6_right_29 ?_
        refine r_iconst X dX6_right_30 ?_
        obtain ⟨r11, h10, h⟩ := bd_some h
        refine r_cS (Wd := 0) X (fun l D sz => w_X6_in l D sz h10) q1502 q1501 q109 q1503 hy_X6_in rfl dX6_right_31 rfl rfl (Nat.le_of_ble_eq_true rfl) ⟨Nat.le_of_ble_eq_true rfl, Nat.le_of_ble_eq_true rfl⟩ ⟨Nat.le_of_ble_eq_true rfl, Nat.le_of_ble_eq_true rfl⟩ ?_
        refine r_if_ne (tgt := 39) X dX6_right_34 (by decide) h (fun c12 h => ?_) (fun c12 h => ?_)
        · refine r_iconst X dX6_right_37 ?_
          cases h
          exact r_iret X hr dX6_right_38
        · refine r_iconst X dX6_right_39 ?_
          refine r_istore X dX6_right_40 (hL 5 (by decide)) (lv' := [(5, iv (0)), (0, .ref (a0)), (1, iv (x1)), (2, iv (x2)), (3, iv (x3)), (4, iv (x4))]) rfl ?_
          refine r_iconst X dX6_right_42 ?_
          refine r_istore X dX6_right_43 (hL 6 (by decide)) (lv' := [(6, iv (1)), (5, iv (0)), (0, .ref (a0)), (1, iv (x1)), (2, iv (x2)), (3, iv (x3)), (4, iv (x4))]) rfl ?_
          have L45 : ∀ s : Int × Int × St, lp (fun s => f_X6_right_b45 (a0) (x1) (x2) (x3) (x4) s.1 s.2.1 s.2.2) s = some w → V Γ (s.2.2) 0 0 45 [(0, .ref (a0)), (1, iv (x1)), (2, iv (x2)), (3, iv (x3)), (4, iv (x4)), (5, iv (s.1)), (6, iv (s.2.1))] [] := by
            refine lp_rule (P := fun s : Int × Int × St => V Γ (s.2.2) 0 0 45 [(0, .ref (a0)), (1, iv (x1)), (2, iv (x2)), (3, iv (x3)), (4, iv (x4)), (5, iv (s.1)), (6, iv (s.2.1))] []) ?_
            intro s z1 h ihb1 ihe1
            obtain ⟨v5_1, v6_1, σ_1⟩ := s
            have h : f_X6_right_b45 (a0) (x1) (x2) (x3) (x4) v5_1 v6_1 σ_1 = some z1 := h
            unfold f_X6_right_b45 at h
            show V Γ σ_1 0 0 45 [(0, .ref (a0)), (1, iv (x1)), (2, iv (x2)), (3, iv (x3)), (4, iv (x4)), (5, iv (v5_1)), (6, iv (v6_1))] []
            refine r_iload X 6 dX6_right_45 rfl ?_
            refine r_bipush X dX6_right_47 (by decide) ?_
            refine r_icmp_gt (tgt := 162) X dX6_right_49 (by decide) h (fun c13 h => ?_) (fun c13 h => ?_)
            · have h := ex_some h ihe1
              refine r_iload X 5 dX6_right_162 rfl ?_
              cases h
              exact r_iret X hr dX6_right_164
            · refine r_iconst X dX6_right_52 ?_
              refine r_istore X dX6_right_53 (hL 7 (by decide)) (lv' := [(7, iv (1)), (0, .ref (a0)), (1, iv (x1)), (2, iv (x2)), (3, iv (x3)), (4, iv (x4)), (5, iv (v5_1)), (6, iv (v6_1))]) rfl ?_
              have L55 : ∀ s : Int × Int × St, lp (fun s => f_X6_right_b55 (a0) (x1) (x2) (x3) (x4) (v6_1) s.1 s.2.1 s.2.2) s = some z1 → V Γ (s.2.2) 0 0 55 [(0, .ref (a0)), (1, iv (x1)), (2, iv (x2)), (3, iv (x3)), (4, iv (x4)), (5, iv (s.1)), (6, iv (v6_1)), (7, iv (s.2.1))] [] := by
                refine lp_rule (P := fun s : Int × Int × St => V Γ (s.2.2) 0 0 55 [(0, .ref (a0)), (1, iv (x1)), (2, iv (x2)), (3, iv (x3)), (4, iv (x4)), (5, iv (s.1)), (6, iv (v6_1)), (7, iv (s.2.1))] []) ?_
                intro s z2 h ihb2 ihe2
                obtain ⟨v5_2, v7_2, σ_2⟩ := s
                have h : f_X6_right_b55 (a0) (x1) (x2) (x3) (x4) (v6_1) v5_2 v7_2 σ_2 = some z2 := h
                unfold f_X6_right_b55 at h
                show V Γ σ_2 0 0 55 [(0, .ref (a0)), (1, iv (x1)), (2, iv (x2)), (3, iv (x3)), (4, iv (x4)), (5, iv (v5_2)), (6, iv (v6_1)), (7, iv (v7_2))] []
                have J139 : ∀ (v7_j139 : Int) (t0_j139 : Int) (t1_j139 : Int) (t2_j139 : Int) (σ_j139 : St), f_X6_right_j139 (a0) (x1) (x2) (x3) (x4) (v6_1) v7_j139 t0_j139 t1_j139 t2_j139 σ_j139 = some z2 → V Γ σ_j139 0 0 139 [(0, .ref (a0)), (1, iv (x1)), (2, iv (x2)), (3, iv (x3)), (4, iv (x4)), (6, iv (v6_1)), (7, iv (v7_j139))] [iv (t0_j139), iv (t1_j139), iv (t2_j139)] := by
                  intro v7_j139 t0_j139 t1_j139 t2_j139 σ_j139 h
                  unfold f_X6_right_j139 at h
                  refine r_icmp_ne (tgt := 146) X dX6_right_139 (by decide) h (fun c14 h => ?_) (fun c14 h => ?_)
                  · refine r_iconst X dX6_right_142 ?_
                    refine r_goto (tgt := 147) X dX6_right_143 (by decide) ?_
                    refine r_iadd X dX6_right_147 ?_
                    refine r_istore X dX6_right_148 (hL 5 (by decide)) (lv' := [(5, iv ((t2_j139 + 1))), (0, .ref (a0)), (1, iv (x1)), (2, iv (x2)), (3, iv (x3)), (4, iv (x4)), (6, iv (v6_1)), (7, iv (v7_j139))]) rfl ?_
                    refine r_iinc X 7 dX6_right_150 rfl (hL 7 (by decide)) (lv' := [(7, iv ((v7_j139 + 1))), (5, iv ((t2_j139 + 1))), (0, .ref (a0)), (1, iv (x1)), (2, iv (x2)), (3, iv (x3)), (4, iv (x4)), (6, iv (v6_1))]) rfl ?_
                    refine r_goto (tgt := 55) X dX6_right_153 (by decide) ?_
                    exact V.sub [2, 3, 4, 5, 6, 1, 7, 0] rfl (ihb2 _ (Option.some.inj h).symm)
                  · refine r_iconst X dX6_right_146 ?_
                    refine r_iadd X dX6_right_147 ?_
                    refine r_istore X dX6_right_148 (hL 5 (by decide)) (lv' := [(5, iv ((t2_j139 + 0))), (0, .ref (a0)), (1, iv (x1)), (2, iv (x2)), (3, iv (x3)), (4, iv (x4)), (6, iv (v6_1)), (7, iv (v7_j139))]) rfl ?_
                    refine r_iinc X 7 dX6_right_150 rfl (hL 7 (by decide)) (lv' := [(7, iv ((v7_j139 + 1))), (5, iv ((t2_j139 + 0))), (0, .ref (a0)), (1, iv (x1)), (2, iv (x2)), (3, iv (x3)), (4, iv (x4)), (6, iv (v6_1))]) rfl ?_
                    refine r_goto (tgt := 55) X dX6_right_153 (by decide) ?_
                    exact V.sub [2, 3, 4, 5, 6, 1, 7, 0] rfl (ihb2 _ (Option.some.inj h).symm)
                have J129 : ∀ (v7_j129 : Int) (t0_j129 : Int) (t1_j129 : Int) (σ_j129 : St), f_X6_right_j129 (a0) (x1) (x2) (x3) (x4) (v6_1) v7_j129 t0_j129 t1_j129 σ_j129 = some z2 → V Γ σ_j129 0 0 129 [(0, .ref (a0)), (1, iv (x1)), (2, iv (x2)), (3, iv (x3)), (4, iv (x4)), (6, iv (v6_1)), (7, iv (v7_j129))] [iv (t0_j129), iv (t1_j129)] := by
                  intro v7_j129 t0_j129 t1_j129 σ_j129 h
                  unfold f_X6_right_j129 at h
                  refine r_iload X 4 dX6_right_129 rfl ?_
                  refine r_if_ne (tgt := 138) X dX6_right_131 (by decide) h (fun c15 h => ?_) (fun c15 h => ?_)
                  · refine r_iconst X dX6_right_134 ?_
                    refine r_goto (tgt := 139) X dX6_right_135 (by decide) ?_
                    exact V.sub [0, 1, 2, 3, 4, 5, 6] rfl (J139 (v7_j129) (1) (t0_j129) (t1_j129) (σ_j129) h)
                  · refine r_iconst X dX6_right_138 ?_
                    exact V.sub [0, 1, 2, 3, 4, 5, 6] rfl (J139 (v7_j129) (0) (t0_j129) (t1_j129) (σ_j129) h)
                have J94 : ∀ (v5_j94 : Int) (v7_j94 : Int) (t0_j94 : Int) (σ_j94 : St), f_X6_right_j94 (a0) (x1) (x2) (x3) (x4) (v6_1) v5_j94 v7_j94 t0_j94 σ_j94 = some z2 → V Γ σ_j94 0 0 94 [(0, .ref (a0)), (1, iv (x1)), (2, iv (x2)), (3, iv (x3)), (4, iv (x4)), (5, iv (v5_j94)), (6, iv (v6_1)), (7, iv (v7_j94))] [iv (t0_j94)] := by
                  intro v5_j94 v7_j94 t0_j94 σ_j94 h
                  unfold f_X6_right_j94 at h
                  refine r_istore X dX6_right_94 (hL 8 (by decide)) (lv' := [(8, iv (t0_j94)), (0, .ref (a0)), (1, iv (x1)), (2, iv (x2)), (3, iv (x3)), (4, iv (x4)), (5, iv (v5_j94)), (6, iv (v6_1)), (7, iv (v7_j94))]) rfl ?_
                  refine r_iload X 6 dX6_right_96 rfl ?_
                  refine r_iload X 0 dX6_right_98 rfl ?_
                  refine r_if_eq (tgt := 146) X dX6_right_100 (by decide) h (fun c16 h => ?_) (fun c16 h => ?_)
                  · refine r_iconst X dX6_right_146 ?_
                    refine r_iadd X dX6_right_147 ?_
                    refine r_istore X dX6_right_148 (hL 5 (by decide)) (lv' := [(5, iv ((v5_j94 + 0))), (8, iv (t0_j94)), (0, .ref (a0)), (1, iv (x1)), (2, iv (x2)), (3, iv (x3)), (4, iv (x4)), (6, iv (v6_1)), (7, iv (v7_j94))]) rfl ?_
                    refine r_iinc X 8 dX6_right_150 rfl (hL 7 (by decide)) (lv' := [(7, iv ((v7_j94 + 1))), (5, iv ((v5_j94 + 0))), (8, iv (t0_j94)), (0, .ref (a0)), (1, iv (x1)), (2, iv (x2)), (3, iv (x3)), (4, iv (x4)), (6, iv (v6_1))]) rfl ?_
                    refine r_goto (tgt := 55) X dX6_right_153 (by decide) ?_
                    exact V.sub [3, 4, 5, 6, 7, 1, 8, 0] rfl (ihb2 _ (Option.some.inj h).symm)
                  · refine r_aload_n X 1 dX6_right_103 rfl rfl ?_
                    obtain ⟨ho17, h⟩ := cO_some h
                    refine r_getI (kf := 40) X ho17.1 rfl (by decide) rfl (Or.inl q1281) dX6_right_104 ?_
                    refine r_aload_n X 1 dX6_right_107 rfl rfl ?_
                    refine r_iload_n X 3 dX6_right_108 rfl rfl ?_
                    refine r_iload_n X 4 dX6_right_109 rfl rfl ?_
                    refine r_iload X 7 dX6_right_110 rfl ?_
                    refine r_iload X 8 dX6_right_112 rfl ?_
                    obtain ⟨r19, h18, h⟩ := bd_some h
                    refine r_cV (Wd := 2) X (fun l D sz => w_X6_dayOf l D sz h18) ho17.1 rfl q1626 qs76 q1624 q109 q1627 hy_X6_dayOf rfl dX6_right_114 rfl rfl (Nat.le_of_ble_eq_true rfl) ⟨Nat.le_of_ble_eq_true rfl, Nat.le_of_ble_eq_true rfl⟩ ⟨Nat.le_of_ble_eq_true rfl, Nat.le_of_ble_eq_true rfl⟩ ?_
                    refine r_isub X dX6_right_117 ?_
                    obtain ⟨r21, h20, h⟩ := bd_some h
                    refine r_cS (Wd := 1) X (fun l D sz => w_X6_round l D sz h20) q1685 q1684 q109 q1686 hy_X6_round rfl dX6_right_118 rfl rfl (Nat.le_of_ble_eq_true rfl) ⟨Nat.le_of_ble_eq_true rfl, Nat.le_of_ble_eq_true rfl⟩ ⟨Nat.le_of_ble_eq_true rfl, Nat.le_of_ble_eq_true rfl⟩ ?_
                    refine r_if_ne (tgt := 128) X dX6_right_121 (by decide) h (fun c22 h => ?_) (fun c22 h => ?_)
                    · refine r_iconst X dX6_right_124 ?_
                      refine r_goto (tgt := 129) X dX6_right_125 (by decide) ?_
                      exact V.sub [1, 2, 3, 4, 5, 7, 8] rfl (J129 (v7_j94) (1) (v5_j94) (σ_j94) h)
                    · refine r_iconst X dX6_right_128 ?_
                      exact V.sub [1, 2, 3, 4, 5, 7, 8] rfl (J129 (v7_j94) (0) (v5_j94) (σ_j94) h)
                have J93 : ∀ (v5_j93 : Int) (v7_j93 : Int) (σ_j93 : St), f_X6_right_j93 (a0) (x1) (x2) (x3) (x4) (v6_1) v5_j93 v7_j93 σ_j93 = some z2 → V Γ σ_j93 0 0 93 [(0, .ref (a0)), (1, iv (x1)), (2, iv (x2)), (3, iv (x3)), (4, iv (x4)), (5, iv (v5_j93)), (6, iv (v6_1)), (7, iv (v7_j93))] [] := by
                  intro v5_j93 v7_j93 σ_j93 h
                  unfold f_X6_right_j93 at h
                  refine r_iconst X dX6_right_93 ?_
                  exact V.sub [0, 1, 2, 3, 4, 5, 6, 7] rfl (J94 (v5_j93) (v7_j93) (0) (σ_j93) h)
                refine r_iload X 7 dX6_right_55 rfl ?_
                refine r_bipush X dX6_right_57 (by decide) ?_
                refine r_icmp_gt (tgt := 156) X dX6_right_59 (by decide) h (fun c23 h => ?_) (fun c23 h => ?_)
                · have h := ex_some h ihe2
                  refine r_iinc X 6 dX6_right_156 rfl (hL 6 (by decide)) (lv' := [(6, iv ((v6_1 + 1))), (0, .ref (a0)), (1, iv (x1)), (2, iv (x2)), (3, iv (x3)), (4, iv (x4)), (5, iv (v5_2)), (7, iv (v7_2))]) rfl ?_
                  refine r_goto (tgt := 45) X dX6_right_159 (by decide) ?_
                  exact V.sub [1, 2, 3, 4, 5, 6, 0] rfl (ihb1 _ (Option.some.inj h).symm)
                · refine r_aload_n X 0 dX6_right_62 rfl rfl ?_
                  refine r_iload_n X 2 dX6_right_63 rfl rfl ?_
                  refine r_iload_n X 3 dX6_right_64 rfl rfl ?_
                  refine r_iload X 6 dX6_right_65 rfl ?_
                  refine r_iload X 7 dX6_right_67 rfl ?_
                  obtain ⟨ho25, h⟩ := cO_some h
                  obtain ⟨r26, h24, h⟩ := bd_some h
                  refine r_cV (Wd := 0) X (fun l D sz => w_X6_isDate l D sz h24) ho25.1 rfl q1614 qs73 q1612 q109 q1615 hy_X6_isDate rfl dX6_right_69 rfl rfl (Nat.le_of_ble_eq_true rfl) ⟨Nat.le_of_ble_eq_true rfl, Nat.le_of_ble_eq_true rfl⟩ ⟨Nat.le_of_ble_eq_true rfl, Nat.le_of_ble_eq_true rfl⟩ ?_
                  refine r_if_eq (tgt := 93) X dX6_right_72 (by decide) h (fun c27 h => ?_) (fun c27 h => ?_)
                  · exact V.sub [0, 1, 2, 3, 4, 5, 6, 7] rfl (J93 (v5_2) (v7_2) (σ_2) h)
                  · refine r_aload_n X 0 dX6_right_75 rfl rfl ?_
                    refine r_iload_n X 1 dX6_right_76 rfl rfl ?_
                    refine r_iload_n X 2 dX6_right_77 rfl rfl ?_
                    refine r_iload_n X 3 dX6_right_78 rfl rfl ?_
                    refine r_iload X 6 dX6_right_79 rfl ?_
                    refine r_iload X 7 dX6_right_81 rfl ?_
                    obtain ⟨r29, σ30, h28, h⟩ := bd2_some h
                    refine r_cV (Wd := 0) X (fun l D sz => w_X6_answer l D sz h28) ho25.1 rfl q1682 qs83 q1680 q109 q1683 hy_X6_answer rfl dX6_right_83 rfl rfl (Nat.le_of_ble_eq_true rfl) ⟨Nat.le_of_ble_eq_true rfl, Nat.le_of_ble_eq_true rfl⟩ ⟨Nat.le_of_ble_eq_true rfl, Nat.le_of_ble_eq_true rfl⟩ ?_
                    refine r_if_eq (tgt := 93) X dX6_right_86 (by decide) h (fun c31 h => ?_) (fun c31 h => ?_)
                    · exact V.sub [0, 1, 2, 3, 4, 5, 6, 7] rfl (J93 (v5_2) (v7_2) (σ30) h)
                    · refine r_iconst X dX6_right_89 ?_
                      refine r_goto (tgt := 94) X dX6_right_90 (by decide) ?_
                      exact V.sub [0, 1, 2, 3, 4, 5, 6, 7] rfl (J94 (v5_2) (v7_2) (1) (σ30) h)
              exact V.sub [1, 2, 3, 4, 5, 6, 7, 0] rfl (L55 (v5_1, 1, σ_1) h)
          exact V.sub [2, 3, 4, 5, 6, 1, 0] rfl (L45 (0, 1, σ) h)
theorem hy_X6_costOf : yX6_costOf.cls ≠ "java/lang/invoke/MethodHandle" ∧ yX6_costOf.cls ≠ "java/lang/invoke/VarHandle" ∧ (parseMethodDescriptor yX6_costOf.desc).map (fun d => d.parameters.length) = some 2 := by decide +kernel
set_option maxHeartbeats 4000000 in
theorem w_X6_costOf (l : Launch) (D : DD) (sz : Nat) {σ : St} {a0 : Nat} {x1 : Int} {x2 : Int} {w : Int} (h : f_X6_costOf σ a0 x1 x2 = some w) : Mt l yX6_costOf cX6_costOf 3 (some FieldType.int) ({ frames := 0, cells := 0, slots := 0, locals := 0 } : Room) D sz σ [.ref a0, iv (x1), iv (x2)] (.returned (some (iv w))) (σ) 0 0 := by
  refine Mt.of (by decide +kernel) (Nat.le_of_ble_eq_true rfl) ?_
  intro Γ X hr hnl hini hnoh
  have X : Cx Γ cX6_costOf "DayBoyModel" _ := X
  have hL : ∀ i, i < 3 → i < nLc Γ := fun i q => by rw [hnl]; exact q
  show V Γ σ 0 0 0 [(0, .ref (a0)), (1, iv (x1)), (2, iv (x2))] []
  unfold f_X6_costOf at h
  obtain ⟨ho0, h⟩ := cO_some h
  refine r_aload_n X 0 dX6_costOf_0 rfl rfl ?_
  refine r_getA (kf := 30) X ho0.1 rfl (by decide) (by decide) (Or.inl q1271) dX6_costOf_1 ?_
  refine r_sipush X dX6_costOf_4 (by decide) ?_
  refine r_iload_n X 1 dX6_costOf_7 rfl rfl ?_
  refine r_imul X dX6_costOf_8 ?_
  refine r_iload_n X 2 dX6_costOf_9 rfl rfl ?_
  refine r_iadd X dX6_costOf_10 ?_
  refine r_lald X ho0.1 (ho0.2 30 (by decide)) rfl rfl rfl (by decide) dX6_costOf_11 h (fun h => ?_)
  refine r_ldc2 (z := 100000) X q1606 dX6_costOf_12 rfl ?_
  obtain ⟨c1, h⟩ := ck_some h
  refine r_ldiv X dX6_costOf_15 c1 (by decide) (by decide) ?_
  refine r_l2i X dX6_costOf_16 ?_
  cases h
  exact r_iret X hr dX6_costOf_17
theorem hy_X6_yearsLack : yX6_yearsLack.cls ≠ "java/lang/invoke/MethodHandle" ∧ yX6_yearsLack.cls ≠ "java/lang/invoke/VarHandle" ∧ (parseMethodDescriptor yX6_yearsLack.desc).map (fun d => d.parameters.length) = some 4 := by decide +kernel
set_option maxHeartbeats 4000000 in
theorem w_X6_yearsLack (l : Launch) (D : DD) (sz : Nat) {σ : St} {a0 : Nat} {x1 : Int} {x2 : Int} {x3 : Int} {x4 : Int} {w : Int} (h : f_X6_yearsLack σ a0 x1 x2 x3 x4 = some w) : Mt l yX6_yearsLack cX6_yearsLack 8 (some FieldType.int) ({ frames := 1, cells := 0, slots := 0, locals := 15 } : Room) D sz σ [.ref a0, iv (x1), iv (x2), iv (x3), iv (x4)] (.returned (some (iv w))) (σ) 0 0 := by
  refine Mt.of (by decide +kernel) (Nat.le_of_ble_eq_true rfl) ?_
  intro Γ X hr hnl hini hnoh
  have X : Cx Γ cX6_yearsLack "DayBoyModel" _ := X
  have hL : ∀ i, i < 8 → i < nLc Γ := fun i q => by rw [hnl]; exact q
  show V Γ σ 0 0 0 [(0, .ref (a0)), (1, iv (x1)), (2, iv (x2)), (3, iv (x3)), (4, iv (x4))] []
  unfold f_X6_yearsLack at h
  obtain ⟨ho0, h⟩ := cO_some h
  refine r_iconst X dX6_yearsLack_0 ?_
  refine r_istore X dX6_yearsLack_1 (hL 5 (by decide)) (lv' := [(5, iv (0)), (0, .ref (a0)), (1, iv (x1)), (2, iv (x2)), (3, iv (x3)), (4, iv (x4))]) rfl ?_
  refine r_iconst X dX6_yearsLack_3 ?_
  refine r_istore X dX6_yearsLack_4 (hL 6 (by decide)) (lv' := [(6, iv ((-1))), (5, iv (0)), (0, .ref (a0)), (1, iv (x1)), (2, iv (x2)), (3, iv (x3)), (4, iv (x4))]) rfl ?_
  refine r_iload_n X 4 dX6_yearsLack_6 rfl rfl ?_
  refine r_istore X dX6_yearsLack_7 (hL 7 (by decide)) (lv' := [(7, iv (x2)), (6, iv ((-1))), (5, iv (0)), (0, .ref (a0)), (1, iv (x1)), (2, iv (x2)), (3, iv (x3)), (4, iv (x4))]) rfl ?_
  have L9 : ∀ s : Int × Int × Int, lp (fun s => f_X6_yearsLack_b9 (σ) (a0) (x1) (x3) (x4) s.1 s.2.1 s.2.2) s = some w → V Γ (σ) 0 0 9 [(0, .ref (a0)), (1, iv (x1)), (3, iv (x3)), (4, iv (x4)), (5, iv (s.1)), (6, iv (s.2.1)), (7, iv (s.2.2))] [] := by
    refine lp_rule (P := fun s : Int × Int × Int => V Γ (σ) 0 0 9 [(0, .ref (a0)), (1, iv (x1)), (3, iv (x3)), (4, iv (x4)), (5, iv (s.1)), (6, iv (s.2.1)), (7, iv (s.2.2))] []) ?_
    intro s z1 h ihb1 ihe1
    obtain ⟨v5_1, v6_1, v7_1⟩ := s
    have h : f_X6_yearsLack_b9 (σ) (a0) (x1) (x3) (x4) v5_1 v6_1 v7_1 = some z1 := h
    unfold f_X6_yearsLack_b9 at h
    show V Γ σ 0 0 9 [(0, .ref (a0)), (1, iv (x1)), (3, iv (x3)), (4, iv (x4)), (5, iv (v5_1)), (6, iv (v6_1)), (7, iv (v7_1))] []
    refine r_iload X 6 dX6_yearsLack_9 rfl ?_
    refine r_iload_n X 2 dX6_yearsLack_11 rfl rfl ?_
    refine r_icmp_gt (tgt := 74) X dX6_yearsLack_12 (by decide) h (fun c1 h => ?_) (fun c1 h => ?_)
    · have h := ex_some h ihe1
      refine r_iload X 3 dX6_yearsLack_74 rfl ?_
      refine r_if_ne (tgt := 84) X dX6_yearsLack_76 (by decide) h (fun c2 h => ?_) (fun c2 h => ?_)
      · refine r_iload X 4 dX6_yearsLack_79 rfl ?_
        refine r_goto (tgt := 108) X dX6_yearsLack_81 (by decide) ?_
        cases h
        exact r_iret X hr dX6_yearsLack_108
      · refine r_iload X 3 dX6_yearsLack_84 rfl ?_
        refine r_iconst X dX6_yearsLack_86 ?_
        refine r_icmp_eq (tgt := 96) X dX6_yearsLack_87 (by decide) h (fun c3 h => ?_) (fun c3 h => ?_)
        · refine r_iload X 5 dX6_yearsLack_96 rfl ?_
          refine r_goto (tgt := 108) X dX6_yearsLack_98 (by decide) ?_
          cases h
          exact r_iret X hr dX6_yearsLack_108
        · refine r_iload X 5 dX6_yearsLack_90 rfl ?_
          refine r_iconst X dX6_yearsLack_92 ?_
          refine r_icmp_ne (tgt := 101) X dX6_yearsLack_93 (by decide) h (fun c4 h => ?_) (fun c4 h => ?_)
          · refine r_iload X 5 dX6_yearsLack_96 rfl ?_
            refine r_goto (tgt := 108) X dX6_yearsLack_98 (by decide) ?_
            cases h
            exact r_iret X hr dX6_yearsLack_108
          · refine r_aload_n X 0 dX6_yearsLack_101 rfl rfl ?_
            refine r_iload_n X 1 dX6_yearsLack_102 rfl rfl ?_
            refine r_iload X 5 dX6_yearsLack_103 rfl ?_
            obtain ⟨r6, h5, h⟩ := bd_some h
            refine r_cV (Wd := 0) X (fun l D sz => w_X6_costOf l D sz h5) ho0.1 rfl q1890 qs102 q1888 q109 q1891 hy_X6_costOf rfl dX6_yearsLack_105 rfl rfl (Nat.le_of_ble_eq_true rfl) ⟨Nat.le_of_ble_eq_true rfl, Nat.le_of_ble_eq_true rfl⟩ ⟨Nat.le_of_ble_eq_true rfl, Nat.le_of_ble_eq_true rfl⟩ ?_
            cases h
            exact r_iret X hr dX6_yearsLack_108
    · refine r_aload_n X 0 dX6_yearsLack_15 rfl rfl ?_
      refine r_getA (kf := 30) X ho0.1 rfl (by decide) (by decide) (Or.inl q1271) dX6_yearsLack_16 ?_
      refine r_sipush X dX6_yearsLack_19 (by decide) ?_
      refine r_iload_n X 1 dX6_yearsLack_22 rfl rfl ?_
      refine r_imul X dX6_yearsLack_23 ?_
      refine r_iload X 6 dX6_yearsLack_24 rfl ?_
      refine r_iadd X dX6_yearsLack_26 ?_
      refine r_lald X ho0.1 (ho0.2 30 (by decide)) rfl rfl rfl (by decide) dX6_yearsLack_27 h (fun h => ?_)
      refine r_ldc2 (z := 1152921504606846976) X q1589 dX6_yearsLack_28 rfl ?_
      refine r_lcmp_lt (tgt := 41) X dX6_yearsLack_31 dX6_yearsLack_32 (by decide) h (fun c7 h => ?_) (fun c7 h => ?_)
      · refine r_iload X 5 dX6_yearsLack_41 rfl ?_
        refine r_iconst X dX6_yearsLack_43 ?_
        refine r_icmp_eq (tgt := 64) X dX6_yearsLack_44 (by decide) h (fun c8 h => ?_) (fun c8 h => ?_)
        · refine r_iload X 6 dX6_yearsLack_64 rfl ?_
          refine r_istore X dX6_yearsLack_66 (hL 6 (by decide)) (lv' := [(6, iv (v7_1)), (0, .ref (a0)), (1, iv (x1)), (3, iv (x3)), (4, iv (x4)), (5, iv (v5_1)), (7, iv (v7_1))]) rfl ?_
          refine r_iinc X 6 dX6_yearsLack_68 rfl (hL 7 (by decide)) (lv' := [(7, iv ((v7_1 + 1))), (6, iv (v7_1)), (0, .ref (a0)), (1, iv (x1)), (3, iv (x3)), (4, iv (x4)), (5, iv (v5_1))]) rfl ?_
          refine r_goto (tgt := 9) X dX6_yearsLack_71 (by decide) ?_
          exact V.sub [2, 3, 4, 5, 6, 1, 0] rfl (ihb1 _ (Option.some.inj h).symm)
        · refine r_aload_n X 0 dX6_yearsLack_47 rfl rfl ?_
          refine r_iload_n X 1 dX6_yearsLack_48 rfl rfl ?_
          refine r_iload X 6 dX6_yearsLack_49 rfl ?_
          obtain ⟨r10, h9, h⟩ := bd_some h
          refine r_cV (Wd := 0) X (fun l D sz => w_X6_costOf l D sz h9) ho0.1 rfl q1890 qs102 q1888 q109 q1891 hy_X6_costOf rfl dX6_yearsLack_51 rfl rfl (Nat.le_of_ble_eq_true rfl) ⟨Nat.le_of_ble_eq_true rfl, Nat.le_of_ble_eq_true rfl⟩ ⟨Nat.le_of_ble_eq_true rfl, Nat.le_of_ble_eq_true rfl⟩ ?_
          refine r_aload_n X 0 dX6_yearsLack_54 rfl rfl ?_
          refine r_iload_n X 1 dX6_yearsLack_55 rfl rfl ?_
          refine r_iload X 5 dX6_yearsLack_56 rfl ?_
          obtain ⟨r12, h11, h⟩ := bd_some h
          refine r_cV (Wd := 1) X (fun l D sz => w_X6_costOf l D sz h11) ho0.1 rfl q1890 qs102 q1888 q109 q1891 hy_X6_costOf rfl dX6_yearsLack_58 rfl rfl (Nat.le_of_ble_eq_true rfl) ⟨Nat.le_of_ble_eq_true rfl, Nat.le_of_ble_eq_true rfl⟩ ⟨Nat.le_of_ble_eq_true rfl, Nat.le_of_ble_eq_true rfl⟩ ?_
          refine r_icmp_le (tgt := 68) X dX6_yearsLack_61 (by decide) h (fun c13 h => ?_) (fun c13 h => ?_)
          · refine r_iload X 6 dX6_yearsLack_64 rfl ?_
            refine r_istore X dX6_yearsLack_66 (hL 6 (by decide)) (lv' := [(6, iv (v7_1)), (0, .ref (a0)), (1, iv (x1)), (3, iv (x3)), (4, iv (x4)), (5, iv (v5_1)), (7, iv (v7_1))]) rfl ?_
            refine r_iinc X 6 dX6_yearsLack_68 rfl (hL 7 (by decide)) (lv' := [(7, iv ((v7_1 + 1))), (6, iv (v7_1)), (0, .ref (a0)), (1, iv (x1)), (3, iv (x3)), (4, iv (x4)), (5, iv (v5_1))]) rfl ?_
            refine r_goto (tgt := 9) X dX6_yearsLack_71 (by decide) ?_
            exact V.sub [2, 3, 4, 5, 6, 1, 0] rfl (ihb1 _ (Option.some.inj h).symm)
          · refine r_iinc X 6 dX6_yearsLack_68 rfl (hL 7 (by decide)) (lv' := [(7, iv ((v7_1 + 1))), (0, .ref (a0)), (1, iv (x1)), (3, iv (x3)), (4, iv (x4)), (5, iv (v5_1)), (6, iv (v6_1))]) rfl ?_
            refine r_goto (tgt := 9) X dX6_yearsLack_71 (by decide) ?_
            exact V.sub [1, 2, 3, 4, 5, 6, 0] rfl (ihb1 _ (Option.some.inj h).symm)
      · refine r_iinc X 4 dX6_yearsLack_35 rfl (hL 5 (by decide)) (lv' := [(5, iv ((v5_1 + 1))), (0, .ref (a0)), (1, iv (x1)), (3, iv (x3)), (4, iv (x4)), (6, iv (v6_1)), (7, iv (v7_1))]) rfl ?_
        refine r_goto (tgt := 68) X dX6_yearsLack_38 (by decide) ?_
        refine r_iinc X 6 dX6_yearsLack_68 rfl (hL 7 (by decide)) (lv' := [(7, iv ((v7_1 + 1))), (5, iv ((v5_1 + 1))), (0, .ref (a0)), (1, iv (x1)), (3, iv (x3)), (4, iv (x4)), (6, iv (v6_1))]) rfl ?_
        refine r_goto (tgt := 9) X dX6_yearsLack_71 (by decide) ?_
        exact V.sub [2, 3, 4, 5, 1, 6, 0] rfl (ihb1 _ (Option.some.inj h).symm)
  exact V.sub [3, 4, 6, 7, 2, 1, 0] rfl (L9 (0, (-1), x2) h)
