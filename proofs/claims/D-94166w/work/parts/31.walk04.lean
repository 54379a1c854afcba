/-! walks (printed by gen.py) -/
set_option maxRecDepth 100000
theorem hy_X1_lacks : yX1_lacks.cls ≠ "java/lang/invoke/MethodHandle" ∧ yX1_lacks.cls ≠ "java/lang/invoke/VarHandle" ∧ (parseMethodDescriptor yX1_lacks.desc).map (fun d => d.parameters.length) = some 4 := by decide +kernel
set_option maxHeartbeats 4000000 in
theorem w_X1_lacks (l : Launch) (D : DD) (sz : Nat) {σ : St} {a0 : Nat} {x1 : Int} {x2 : Int} {x3 : Int} {x4 : Int} {w : Int} (h : f_X1_lacks σ a0 x1 x2 x3 x4 = some w) : Mt l yX1_lacks cX1_lacks 9 (some FieldType.int) ({ frames := 3, cells := 0, slots := 0, locals := 42 } : Room) D sz σ [.ref a0, iv (x1), iv (x2), iv (x3), iv (x4)] (.returned (some (iv w))) (σ) 0 0 := by
  refine Mt.of (by decide +kernel) (Nat.le_of_ble_eq_true rfl) ?_
  intro Γ X hr hnl hini hnoh
  have X : Cx Γ cX1_lacks "DayBoy" _ := X
  have hL : ∀ i, i < 9 → i < nLc Γ := fun i q => by rw [hnl]; exact q
  show V Γ σ 0 0 0 [(0, .ref (a0)), (1, iv (x1)), (2, iv (x2)), (3, iv (x3)), (4, iv (x4))] []
  unfold f_X1_lacks at h
  obtain ⟨ho0, h⟩ := cO_some h
  have J37 : ∀ (_ : Unit), f_X1_lacks_j37 (σ) (a0) (x1) (x2) (x3) (x4)  = some w → V Γ σ 0 0 37 [(0, .ref (a0)), (1, iv (x1)), (2, iv (x2)), (3, iv (x3)), (4, iv (x4))] [] := by
    intro _ h
    unfold f_X1_lacks_j37 at h
    refine r_aload_n X 0 dX1_lacks_37 rfl rfl ?_
    refine r_getA (kf := 5) X ho0.1 rfl (by decide) (by decide) (Or.inl q311) dX1_lacks_38 ?_
    refine r_iload_n X 1 dX1_lacks_41 rfl rfl ?_
    refine r_aald X ho0.1 (ho0.2 5 (by decide)) rfl rfl (by decide) rfl (by decide) dX1_lacks_42 h (fun b1 h => ?_)
    refine r_astore X dX1_lacks_43 (hL 5 (by decide)) (lv' := [(5, .ref (b1)), (0, .ref (a0)), (1, iv (x1)), (2, iv (x2)), (3, iv (x3)), (4, iv (x4))]) rfl ?_
    refine r_iload X 5 dX1_lacks_45 rfl ?_
    refine r_iconst X dX1_lacks_47 ?_
    refine r_icmp_ne (tgt := 57) X dX1_lacks_48 (by decide) h (fun c2 h => ?_) (fun c2 h => ?_)
    · refine r_aload X 0 dX1_lacks_51 rfl ?_
      obtain ⟨r4, h3, h⟩ := bd_some h
      refine r_cS (Wd := 0) X (fun l D sz => w_X1_lackingMonths l D sz h3) q1169 q1168 q104 q1170 hy_X1_lackingMonths rfl dX1_lacks_53 rfl rfl (Nat.le_of_ble_eq_true rfl) ⟨Nat.le_of_ble_eq_true rfl, Nat.le_of_ble_eq_true rfl⟩ ⟨Nat.le_of_ble_eq_true rfl, Nat.le_of_ble_eq_true rfl⟩ ?_
      cases h
      exact r_iret X hr dX1_lacks_56
    · refine r_iconst X dX1_lacks_57 ?_
      refine r_istore X dX1_lacks_58 (hL 6 (by decide)) (lv' := [(6, iv (0)), (5, .ref (b1)), (0, .ref (a0)), (1, iv (x1)), (2, iv (x2)), (3, iv (x3)), (4, iv (x4))]) rfl ?_
      refine r_iconst X dX1_lacks_60 ?_
      refine r_istore X dX1_lacks_61 (hL 7 (by decide)) (lv' := [(7, iv ((-1))), (6, iv (0)), (5, .ref (b1)), (0, .ref (a0)), (1, iv (x1)), (2, iv (x2)), (3, iv (x3)), (4, iv (x4))]) rfl ?_
      refine r_iload_n X 5 dX1_lacks_63 rfl rfl ?_
      refine r_istore X dX1_lacks_64 (hL 8 (by decide)) (lv' := [(8, iv (x2)), (7, iv ((-1))), (6, iv (0)), (5, .ref (b1)), (0, .ref (a0)), (1, iv (x1)), (2, iv (x2)), (3, iv (x3)), (4, iv (x4))]) rfl ?_
      have L66 : ∀ s : Int × Int × Int, lp (fun s => f_X1_lacks_b66 (σ) (x3) (x4) (b1) s.1 s.2.1 s.2.2) s = some w → V Γ (σ) 0 0 66 [(3, iv (x3)), (4, iv (x4)), (5, .ref (b1)), (6, iv (s.1)), (7, iv (s.2.1)), (8, iv (s.2.2))] [] := by
        refine lp_rule (P := fun s : Int × Int × Int => V Γ (σ) 0 0 66 [(3, iv (x3)), (4, iv (x4)), (5, .ref (b1)), (6, iv (s.1)), (7, iv (s.2.1)), (8, iv (s.2.2))] []) ?_
        intro s z1 h ihb1 ihe1
        obtain ⟨v6_1, v7_1, v8_1⟩ := s
        have h : f_X1_lacks_b66 (σ) (x3) (x4) (b1) v6_1 v7_1 v8_1 = some z1 := h
        unfold f_X1_lacks_b66 at h
        show V Γ σ 0 0 66 [(3, iv (x3)), (4, iv (x4)), (5, .ref (b1)), (6, iv (v6_1)), (7, iv (v7_1)), (8, iv (v8_1))] []
        refine r_iload X 5 dX1_lacks_66 rfl ?_
        refine r_iload_n X 0 dX1_lacks_68 rfl rfl ?_
        refine r_icmp_gt (tgt := 137) X dX1_lacks_69 (by decide) h (fun c5 h => ?_) (fun c5 h => ?_)
        · have h := ex_some h ihe1
          refine r_iload X 1 dX1_lacks_137 rfl ?_
          refine r_if_ne (tgt := 147) X dX1_lacks_139 (by decide) h (fun c6 h => ?_) (fun c6 h => ?_)
          · refine r_iload X 3 dX1_lacks_142 rfl ?_
            refine r_goto (tgt := 177) X dX1_lacks_144 (by decide) ?_
            cases h
            exact r_iret X hr dX1_lacks_177
          · refine r_iload X 1 dX1_lacks_147 rfl ?_
            refine r_iconst X dX1_lacks_149 ?_
            refine r_icmp_eq (tgt := 159) X dX1_lacks_150 (by decide) h (fun c7 h => ?_) (fun c7 h => ?_)
            · refine r_iload X 4 dX1_lacks_159 rfl ?_
              refine r_goto (tgt := 177) X dX1_lacks_161 (by decide) ?_
              cases h
              exact r_iret X hr dX1_lacks_177
            · refine r_iload X 4 dX1_lacks_153 rfl ?_
              refine r_iconst X dX1_lacks_155 ?_
              refine r_icmp_ne (tgt := 164) X dX1_lacks_156 (by decide) h (fun c8 h => ?_) (fun c8 h => ?_)
              · refine r_iload X 4 dX1_lacks_159 rfl ?_
                refine r_goto (tgt := 177) X dX1_lacks_161 (by decide) ?_
                cases h
                exact r_iret X hr dX1_lacks_177
              · refine r_aload X 2 dX1_lacks_164 rfl ?_
                obtain ⟨ho9, h⟩ := cO_some h
                refine r_getA (kf := 9) X ho9.1 rfl (by decide) (by decide) (Or.inr ⟨_, q229⟩) dX1_lacks_166 ?_
                refine r_iload X 4 dX1_lacks_169 rfl ?_
                refine r_lald X ho9.1 (ho9.2 9 (by decide)) rfl rfl rfl (by decide) dX1_lacks_171 h (fun h => ?_)
                refine r_ldc2 (z := 20000) X q903 dX1_lacks_172 rfl ?_
                obtain ⟨c10, h⟩ := ck_some h
                refine r_ldiv X dX1_lacks_175 c10 (by decide) (by decide) ?_
                refine r_l2i X dX1_lacks_176 ?_
                cases h
                exact r_iret X hr dX1_lacks_177
        · refine r_aload X 2 dX1_lacks_72 rfl ?_
          obtain ⟨ho11, h⟩ := cO_some h
          refine r_getA (kf := 9) X ho11.1 rfl (by decide) (by decide) (Or.inr ⟨_, q229⟩) dX1_lacks_74 ?_
          refine r_iload X 5 dX1_lacks_77 rfl ?_
          refine r_lald X ho11.1 (ho11.2 9 (by decide)) rfl rfl rfl (by decide) dX1_lacks_79 h (fun h => ?_)
          refine r_ldc2 (z := 1000000000000) X q1171 dX1_lacks_80 rfl ?_
          refine r_lcmp_lt (tgt := 93) X dX1_lacks_83 dX1_lacks_84 (by decide) h (fun c12 h => ?_) (fun c12 h => ?_)
          · refine r_iload X 4 dX1_lacks_93 rfl ?_
            refine r_iconst X dX1_lacks_95 ?_
            refine r_icmp_eq (tgt := 127) X dX1_lacks_96 (by decide) h (fun c13 h => ?_) (fun c13 h => ?_)
            · refine r_iload X 5 dX1_lacks_127 rfl ?_
              refine r_istore X dX1_lacks_129 (hL 7 (by decide)) (lv' := [(7, iv (v8_1)), (3, iv (x3)), (4, iv (x4)), (5, .ref (b1)), (6, iv (v6_1)), (8, iv (v8_1))]) rfl ?_
              refine r_iinc X 5 dX1_lacks_131 rfl (hL 8 (by decide)) (lv' := [(8, iv ((v8_1 + 1))), (7, iv (v8_1)), (3, iv (x3)), (4, iv (x4)), (5, .ref (b1)), (6, iv (v6_1))]) rfl ?_
              refine r_goto (tgt := 66) X dX1_lacks_134 (by decide) ?_
              exact V.sub [2, 3, 4, 5, 1, 0] rfl (ihb1 _ (Option.some.inj h).symm)
            · refine r_aload X 2 dX1_lacks_99 rfl ?_
              refine r_getA (kf := 9) X ho11.1 rfl (by decide) (by decide) (Or.inr ⟨_, q229⟩) dX1_lacks_101 ?_
              refine r_iload X 5 dX1_lacks_104 rfl ?_
              refine r_lald X ho11.1 (ho11.2 9 (by decide)) rfl rfl rfl (by decide) dX1_lacks_106 h (fun h => ?_)
              refine r_ldc2 (z := 20000) X q903 dX1_lacks_107 rfl ?_
              obtain ⟨c14, h⟩ := ck_some h
              refine r_ldiv X dX1_lacks_110 c14 (by decide) (by decide) ?_
              refine r_aload X 2 dX1_lacks_111 rfl ?_
              refine r_getA (kf := 9) X ho11.1 rfl (by decide) (by decide) (Or.inr ⟨_, q229⟩) dX1_lacks_113 ?_
              refine r_iload X 4 dX1_lacks_116 rfl ?_
              refine r_lald X ho11.1 (ho11.2 9 (by decide)) rfl rfl rfl (by decide) dX1_lacks_118 h (fun h => ?_)
              refine r_ldc2 (z := 20000) X q903 dX1_lacks_119 rfl ?_
              obtain ⟨c15, h⟩ := ck_some h
              refine r_ldiv X dX1_lacks_122 c15 (by decide) (by decide) ?_
              refine r_lcmp_le (tgt := 131) X dX1_lacks_123 dX1_lacks_124 (by decide) h (fun c16 h => ?_) (fun c16 h => ?_)
              · refine r_iload X 5 dX1_lacks_127 rfl ?_
                refine r_istore X dX1_lacks_129 (hL 7 (by decide)) (lv' := [(7, iv (v8_1)), (3, iv (x3)), (4, iv (x4)), (5, .ref (b1)), (6, iv (v6_1)), (8, iv (v8_1))]) rfl ?_
                refine r_iinc X 5 dX1_lacks_131 rfl (hL 8 (by decide)) (lv' := [(8, iv ((v8_1 + 1))), (7, iv (v8_1)), (3, iv (x3)), (4, iv (x4)), (5, .ref (b1)), (6, iv (v6_1))]) rfl ?_
                refine r_goto (tgt := 66) X dX1_lacks_134 (by decide) ?_
                exact V.sub [2, 3, 4, 5, 1, 0] rfl (ihb1 _ (Option.some.inj h).symm)
              · refine r_iinc X 5 dX1_lacks_131 rfl (hL 8 (by decide)) (lv' := [(8, iv ((v8_1 + 1))), (3, iv (x3)), (4, iv (x4)), (5, .ref (b1)), (6, iv (v6_1)), (7, iv (v7_1))]) rfl ?_
                refine r_goto (tgt := 66) X dX1_lacks_134 (by decide) ?_
                exact V.sub [1, 2, 3, 4, 5, 0] rfl (ihb1 _ (Option.some.inj h).symm)
          · refine r_iinc X 3 dX1_lacks_87 rfl (hL 6 (by decide)) (lv' := [(6, iv ((v6_1 + 1))), (3, iv (x3)), (4, iv (x4)), (5, .ref (b1)), (7, iv (v7_1)), (8, iv (v8_1))]) rfl ?_
            refine r_goto (tgt := 131) X dX1_lacks_90 (by decide) ?_
            refine r_iinc X 5 dX1_lacks_131 rfl (hL 8 (by decide)) (lv' := [(8, iv ((v8_1 + 1))), (6, iv ((v6_1 + 1))), (3, iv (x3)), (4, iv (x4)), (5, .ref (b1)), (7, iv (v7_1))]) rfl ?_
            refine r_goto (tgt := 66) X dX1_lacks_134 (by decide) ?_
            exact V.sub [2, 3, 4, 1, 5, 0] rfl (ihb1 _ (Option.some.inj h).symm)
      exact V.sub [7, 8, 3, 2, 1, 0] rfl (L66 (0, (-1), x2) h)
  refine r_aload_n X 0 dX1_lacks_0 rfl rfl ?_
  refine r_iload_n X 1 dX1_lacks_1 rfl rfl ?_
  obtain ⟨r18, h17, h⟩ := bd_some h
  refine r_cV (Wd := 0) X (fun l D sz => w_X1_isHead l D sz h17) ho0.1 rfl q852 qs27 q850 q104 q853 hy_X1_isHead rfl dX1_lacks_2 rfl rfl (Nat.le_of_ble_eq_true rfl) ⟨Nat.le_of_ble_eq_true rfl, Nat.le_of_ble_eq_true rfl⟩ ⟨Nat.le_of_ble_eq_true rfl, Nat.le_of_ble_eq_true rfl⟩ ?_
  refine r_if_eq (tgt := 35) X dX1_lacks_5 (by decide) h (fun c19 h => ?_) (fun c19 h => ?_)
  · refine r_iconst X dX1_lacks_35 ?_
    cases h
    exact r_iret X hr dX1_lacks_36
  · refine r_iload X 4 dX1_lacks_8 rfl ?_
    obtain ⟨c20, h⟩ := ck_some h
    refine r_i2l X dX1_lacks_10 c20 ?_
    refine r_lconst (y := 0) X dX1_lacks_11 rfl ?_
    refine r_ldc2 (z := 3) X q753 dX1_lacks_12 rfl ?_
    obtain ⟨r22, h21, h⟩ := bd_some h
    refine r_cS (Wd := 0) X (fun l D sz => w_X1_isIn l D sz h21) q414 q413 q104 q415 hy_X1_isIn rfl dX1_lacks_15 rfl rfl (Nat.le_of_ble_eq_true rfl) ⟨Nat.le_of_ble_eq_true rfl, Nat.le_of_ble_eq_true rfl⟩ ⟨Nat.le_of_ble_eq_true rfl, Nat.le_of_ble_eq_true rfl⟩ ?_
    refine r_if_eq (tgt := 35) X dX1_lacks_18 (by decide) h (fun c23 h => ?_) (fun c23 h => ?_)
    · refine r_iconst X dX1_lacks_35 ?_
      cases h
      exact r_iret X hr dX1_lacks_36
    · refine r_iload X 4 dX1_lacks_21 rfl ?_
      refine r_iconst X dX1_lacks_23 ?_
      refine r_icmp_ge (tgt := 37) X dX1_lacks_24 (by decide) h (fun c24 h => ?_) (fun c24 h => ?_)
      · refine r_iload_n X 2 dX1_lacks_27 rfl rfl ?_
        refine r_iload_n X 3 dX1_lacks_28 rfl rfl ?_
        obtain ⟨r26, h25, h⟩ := bd_some h
        refine r_cS (Wd := 0) X (fun l D sz => w_X1_areYears l D sz h25) q1158 q1157 q104 q1159 hy_X1_areYears rfl dX1_lacks_29 rfl rfl (Nat.le_of_ble_eq_true rfl) ⟨Nat.le_of_ble_eq_true rfl, Nat.le_of_ble_eq_true rfl⟩ ⟨Nat.le_of_ble_eq_true rfl, Nat.le_of_ble_eq_true rfl⟩ ?_
        refine r_if_ne (tgt := 37) X dX1_lacks_32 (by decide) h (fun c27 h => ?_) (fun c27 h => ?_)
        · refine r_iconst X dX1_lacks_35 ?_
          cases h
          exact r_iret X hr dX1_lacks_36
        · exact V.sub [0, 1, 2, 3, 4] rfl (J37 () h)
      · exact V.sub [0, 1, 2, 3, 4] rfl (J37 () h)
theorem hy_X1_spare : yX1_spare.cls ≠ "java/lang/invoke/MethodHandle" ∧ yX1_spare.cls ≠ "java/lang/invoke/VarHandle" ∧ (parseMethodDescriptor yX1_spare.desc).map (fun d => d.parameters.length) = some 2 := by decide +kernel
set_option maxHeartbeats 4000000 in
theorem w_X1_spare (l : Launch) (D : DD) (sz : Nat) {σ : St} {a0 : Nat} {x1 : Int} {x2 : Int} {w : Int × St} (h : f_X1_spare σ a0 x1 x2 = some w) : Mt l yX1_spare cX1_spare 5 (some FieldType.int) ({ frames := 11, cells := 0, slots := 0, locals := 173 } : Room) D sz σ [.ref a0, iv (x1), iv (x2)] (.returned (some (iv w.1))) (w.2) 0 0 := by
  refine Mt.of (by decide +kernel) (Nat.le_of_ble_eq_true rfl) ?_
  intro Γ X hr hnl hini hnoh
  have X : Cx Γ cX1_spare "DayBoy" _ := X
  have hL : ∀ i, i < 5 → i < nLc Γ := fun i q => by rw [hnl]; exact q
  show V Γ σ 0 0 0 [(0, .ref (a0)), (1, iv (x1)), (2, iv (x2))] []
  unfold f_X1_spare at h
  obtain ⟨ho0, h⟩ := cO_some h
  refine r_iload_n X 1 dX1_spare_0 rfl rfl ?_
  obtain ⟨r2, h1, h⟩ := bd_some h
  refine r_cS (Wd := 0) X (fun l D sz => w_X1_isSlack l D sz h1) q967 q966 q104 q968 hy_X1_isSlack rfl dX1_spare_1 rfl rfl (Nat.le_of_ble_eq_true rfl) ⟨Nat.le_of_ble_eq_true rfl, Nat.le_of_ble_eq_true rfl⟩ ⟨Nat.le_of_ble_eq_true rfl, Nat.le_of_ble_eq_true rfl⟩ ?_
  refine r_if_eq (tgt := 19) X dX1_spare_4 (by decide) h (fun c3 h => ?_) (fun c3 h => ?_)
  · refine r_iconst X dX1_spare_19 ?_
    cases h
    exact r_iret X hr dX1_spare_20
  · refine r_iload_n X 2 dX1_spare_7 rfl rfl ?_
    obtain ⟨c4, h⟩ := ck_some h
    refine r_i2l X dX1_spare_8 c4 ?_
    refine r_lconst (y := 0) X dX1_spare_9 rfl ?_
    refine r_ldc2 (z := 60) X q1176 dX1_spare_10 rfl ?_
    obtain ⟨r6, h5, h⟩ := bd_some h
    refine r_cS (Wd := 0) X (fun l D sz => w_X1_isIn l D sz h5) q414 q413 q104 q415 hy_X1_isIn rfl dX1_spare_13 rfl rfl (Nat.le_of_ble_eq_true rfl) ⟨Nat.le_of_ble_eq_true rfl, Nat.le_of_ble_eq_true rfl⟩ ⟨Nat.le_of_ble_eq_true rfl, Nat.le_of_ble_eq_true rfl⟩ ?_
    refine r_if_ne (tgt := 21) X dX1_spare_16 (by decide) h (fun c7 h => ?_) (fun c7 h => ?_)
    · refine r_iconst X dX1_spare_19 ?_
      cases h
      exact r_iret X hr dX1_spare_20
    · refine r_iconst X dX1_spare_21 ?_
      refine r_istore_n X dX1_spare_22 rfl (hL 3 (by decide)) (lv' := [(3, iv (0)), (0, .ref (a0)), (1, iv (x1)), (2, iv (x2))]) rfl ?_
      refine r_iconst X dX1_spare_23 ?_
      refine r_istore X dX1_spare_24 (hL 4 (by decide)) (lv' := [(4, iv (0)), (3, iv (0)), (0, .ref (a0)), (1, iv (x1)), (2, iv (x2))]) rfl ?_
      have L26 : ∀ s : Int × Int × St, lp (fun s => f_X1_spare_b26 (a0) (x1) (x2) s.1 s.2.1 s.2.2) s = some w → V Γ (s.2.2) 0 0 26 [(0, .ref (a0)), (1, iv (x1)), (2, iv (x2)), (3, iv (s.1)), (4, iv (s.2.1))] [] := by
        refine lp_rule (P := fun s : Int × Int × St => V Γ (s.2.2) 0 0 26 [(0, .ref (a0)), (1, iv (x1)), (2, iv (x2)), (3, iv (s.1)), (4, iv (s.2.1))] []) ?_
        intro s z1 h ihb1 ihe1
        obtain ⟨v3_1, v4_1, σ_1⟩ := s
        have h : f_X1_spare_b26 (a0) (x1) (x2) v3_1 v4_1 σ_1 = some z1 := h
        unfold f_X1_spare_b26 at h
        show V Γ σ_1 0 0 26 [(0, .ref (a0)), (1, iv (x1)), (2, iv (x2)), (3, iv (v3_1)), (4, iv (v4_1))] []
        refine r_iload X 4 dX1_spare_26 rfl ?_
        refine r_aload_n X 0 dX1_spare_28 rfl rfl ?_
        obtain ⟨ho8, h⟩ := cO_some h
        refine r_getI (kf := 7) X ho8.1 rfl (by decide) rfl (Or.inl q313) dX1_spare_29 ?_
        refine r_icmp_ge (tgt := 73) X dX1_spare_32 (by decide) h (fun c9 h => ?_) (fun c9 h => ?_)
        · refine r_iload_n X 3 dX1_spare_35 rfl rfl ?_
          refine r_aload_n X 0 dX1_spare_36 rfl rfl ?_
          refine r_getI (kf := 13) X ho8.1 rfl (by decide) rfl (Or.inl q320) dX1_spare_37 ?_
          refine r_aload_n X 0 dX1_spare_40 rfl rfl ?_
          refine r_aload_n X 0 dX1_spare_41 rfl rfl ?_
          refine r_getA (kf := 5) X ho8.1 rfl (by decide) (by decide) (Or.inl q311) dX1_spare_42 ?_
          refine r_iload X 4 dX1_spare_45 rfl ?_
          refine r_aald X ho8.1 (ho8.2 5 (by decide)) rfl rfl (by decide) rfl (by decide) dX1_spare_47 h (fun b10 h => ?_)
          refine r_iload_n X 1 dX1_spare_48 rfl rfl ?_
          obtain ⟨r12, σ13, h11, h⟩ := bd2_some h
          refine r_cV (Wd := 2) X (fun l D sz => w_X1_soMany l D sz h11) ho8.1 rfl q971 qs30 q969 q104 q972 hy_X1_soMany rfl dX1_spare_49 rfl rfl (Nat.le_of_ble_eq_true rfl) ⟨Nat.le_of_ble_eq_true rfl, Nat.le_of_ble_eq_true rfl⟩ ⟨Nat.le_of_ble_eq_true rfl, Nat.le_of_ble_eq_true rfl⟩ ?_
          refine r_isub X dX1_spare_52 ?_
          refine r_iload_n X 2 dX1_spare_53 rfl rfl ?_
          refine r_icmp_gt (tgt := 64) X dX1_spare_54 (by decide) h (fun c14 h => ?_) (fun c14 h => ?_)
          · refine r_iconst X dX1_spare_64 ?_
            refine r_ior X dX1_spare_65 ?_
            refine r_istore_n X dX1_spare_66 rfl (hL 3 (by decide)) (lv' := [(3, iv ((bOr (v3_1) (0)))), (0, .ref (a0)), (1, iv (x1)), (2, iv (x2)), (4, iv (v4_1))]) rfl ?_
            refine r_iinc X 4 dX1_spare_67 rfl (hL 4 (by decide)) (lv' := [(4, iv ((v4_1 + 1))), (3, iv ((bOr (v3_1) (0)))), (0, .ref (a0)), (1, iv (x1)), (2, iv (x2))]) rfl ?_
            refine r_goto (tgt := 26) X dX1_spare_70 (by decide) ?_
            exact V.sub [2, 3, 4, 1, 0] rfl (ihb1 _ (Option.some.inj h).symm)
          · refine r_iconst X dX1_spare_57 ?_
            refine r_iload X 4 dX1_spare_58 rfl ?_
            refine r_ishl X dX1_spare_60 ?_
            refine r_goto (tgt := 65) X dX1_spare_61 (by decide) ?_
            refine r_ior X dX1_spare_65 ?_
            refine r_istore_n X dX1_spare_66 rfl (hL 3 (by decide)) (lv' := [(3, iv ((bOr (v3_1) ((bShl (1) (v4_1)))))), (0, .ref (a0)), (1, iv (x1)), (2, iv (x2)), (4, iv (v4_1))]) rfl ?_
            refine r_iinc X 4 dX1_spare_67 rfl (hL 4 (by decide)) (lv' := [(4, iv ((v4_1 + 1))), (3, iv ((bOr (v3_1) ((bShl (1) (v4_1)))))), (0, .ref (a0)), (1, iv (x1)), (2, iv (x2))]) rfl ?_
            refine r_goto (tgt := 26) X dX1_spare_70 (by decide) ?_
            exact V.sub [2, 3, 4, 1, 0] rfl (ihb1 _ (Option.some.inj h).symm)
        · have h := ex_some h ihe1
          refine r_iload_n X 3 dX1_spare_73 rfl rfl ?_
          cases h
          exact r_iret X hr dX1_spare_74
      exact V.sub [2, 3, 4, 1, 0] rfl (L26 (0, 0, σ) h)
theorem hy_X1_isUnlike : yX1_isUnlike.cls ≠ "java/lang/invoke/MethodHandle" ∧ yX1_isUnlike.cls ≠ "java/lang/invoke/VarHandle" ∧ (parseMethodDescriptor yX1_isUnlike.desc).map (fun d => d.parameters.length) = some 3 := by decide +kernel
set_option maxHeartbeats 4000000 in
theorem w_X1_isUnlike (l : Launch) (D : DD) (sz : Nat) {σ : St} {p0 : Nat} {p1 : Nat} {x2 : Int} {w : Int} (h : f_X1_isUnlike σ p0 p1 x2 = some w) : Mt l yX1_isUnlike cX1_isUnlike 4 (some FieldType.boolean) ({ frames := 6, cells := 0, slots := 0, locals := 94 } : Room) D sz σ [.ref (p0), .ref (p1), iv (x2)] (.returned (some (iv w))) (σ) 0 0 := by
  refine Mt.of (by decide +kernel) (Nat.le_of_ble_eq_true rfl) ?_
  intro Γ X hr hnl hini hnoh
  have X : Cx Γ cX1_isUnlike "DayBoy" _ := X
  have hL : ∀ i, i < 4 → i < nLc Γ := fun i q => by rw [hnl]; exact q
  show V Γ σ 0 0 0 [(0, .ref (p0)), (1, .ref (p1)), (2, iv (x2))] []
  unfold f_X1_isUnlike at h
  refine r_iconst X dX1_isUnlike_0 ?_
  refine r_istore_n X dX1_isUnlike_1 rfl (hL 3 (by decide)) (lv' := [(3, iv (0)), (0, .ref (p0)), (1, .ref (p1)), (2, iv (x2))]) rfl ?_
  have L2 : ∀ s : Int, lp (fun s => f_X1_isUnlike_b2 (σ) (p0) (p1) (x2) s) s = some w → V Γ (σ) 0 0 2 [(0, .ref (p0)), (1, .ref (p1)), (2, iv (x2)), (3, iv (s))] [] := by
    refine lp_rule (P := fun s : Int => V Γ (σ) 0 0 2 [(0, .ref (p0)), (1, .ref (p1)), (2, iv (x2)), (3, iv (s))] []) ?_
    intro s z1 h ihb1 ihe1
    obtain ⟨v3_1, es⟩ : ∃ q, q = s := ⟨s, rfl⟩
    subst es
    have h : f_X1_isUnlike_b2 (σ) (p0) (p1) (x2) v3_1 = some z1 := h
    unfold f_X1_isUnlike_b2 at h
    show V Γ σ 0 0 2 [(0, .ref (p0)), (1, .ref (p1)), (2, iv (x2)), (3, iv (v3_1))] []
    refine r_iload_n X 3 dX1_isUnlike_2 rfl rfl ?_
    refine r_iconst X dX1_isUnlike_3 ?_
    refine r_icmp_ge (tgt := 30) X dX1_isUnlike_4 (by decide) h (fun c1 h => ?_) (fun c1 h => ?_)
    · refine r_aload_n X 0 dX1_isUnlike_7 rfl rfl ?_
      refine r_iload_n X 2 dX1_isUnlike_8 rfl rfl ?_
      refine r_iload_n X 3 dX1_isUnlike_9 rfl rfl ?_
      obtain ⟨ho3, h⟩ := cO_some h
      obtain ⟨r4, h2, h⟩ := bd_some h
      refine r_cV (Wd := 0) X (fun l D sz => w_X2_date l D sz h2) ho3.1 rfl q755 q756 q754 q105 q757 hy_X2_date rfl dX1_isUnlike_10 rfl rfl (Nat.le_of_ble_eq_true rfl) ⟨Nat.le_of_ble_eq_true rfl, Nat.le_of_ble_eq_true rfl⟩ ⟨Nat.le_of_ble_eq_true rfl, Nat.le_of_ble_eq_true rfl⟩ ?_
      refine r_aload_n X 1 dX1_isUnlike_13 rfl rfl ?_
      refine r_iload_n X 2 dX1_isUnlike_14 rfl rfl ?_
      refine r_iload_n X 3 dX1_isUnlike_15 rfl rfl ?_
      obtain ⟨ho6, h⟩ := cO_some h
      obtain ⟨r7, h5, h⟩ := bd_some h
      refine r_cV (Wd := 1) X (fun l D sz => w_X2_date l D sz h5) ho6.1 rfl q755 q756 q754 q105 q757 hy_X2_date rfl dX1_isUnlike_16 rfl rfl (Nat.le_of_ble_eq_true rfl) ⟨Nat.le_of_ble_eq_true rfl, Nat.le_of_ble_eq_true rfl⟩ ⟨Nat.le_of_ble_eq_true rfl, Nat.le_of_ble_eq_true rfl⟩ ?_
      refine r_icmp_eq (tgt := 24) X dX1_isUnlike_19 (by decide) h (fun c8 h => ?_) (fun c8 h => ?_)
      · refine r_iinc X 3 dX1_isUnlike_24 rfl (hL 3 (by decide)) (lv' := [(3, iv ((v3_1 + 1))), (0, .ref (p0)), (1, .ref (p1)), (2, iv (x2))]) rfl ?_
        refine r_goto (tgt := 2) X dX1_isUnlike_27 (by decide) ?_
        exact V.sub [1, 2, 3, 0] rfl (ihb1 _ (Option.some.inj h).symm)
      · have h := ex_some h ihe1
        refine r_iconst X dX1_isUnlike_22 ?_
        cases h
        exact r_zret X hr (by decide) dX1_isUnlike_23
    · have h := ex_some h ihe1
      refine r_iconst X dX1_isUnlike_30 ?_
      cases h
      exact r_zret X hr (by decide) dX1_isUnlike_31
  exact V.sub [1, 2, 3, 0] rfl (L2 (0) h)
theorem hy_X1_unlike : yX1_unlike.cls ≠ "java/lang/invoke/MethodHandle" ∧ yX1_unlike.cls ≠ "java/lang/invoke/VarHandle" ∧ (parseMethodDescriptor yX1_unlike.desc).map (fun d => d.parameters.length) = some 3 := by decide +kernel
set_option maxHeartbeats 4000000 in
theorem w_X1_unlike (l : Launch) (D : DD) (sz : Nat) {σ : St} {a0 : Nat} {x1 : Int} {x2 : Int} {x3 : Int} {w : Int} (h : f_X1_unlike σ a0 x1 x2 x3 = some w) : Mt l yX1_unlike cX1_unlike 5 (some FieldType.int) ({ frames := 7, cells := 0, slots := 0, locals := 109 } : Room) D sz σ [.ref a0, iv (x1), iv (x2), iv (x3)] (.returned (some (iv w))) (σ) 0 0 := by
  refine Mt.of (by decide +kernel) (Nat.le_of_ble_eq_true rfl) ?_
  intro Γ X hr hnl hini hnoh
  have X : Cx Γ cX1_unlike "DayBoy" _ := X
  have hL : ∀ i, i < 5 → i < nLc Γ := fun i q => by rw [hnl]; exact q
  show V Γ σ 0 0 0 [(0, .ref (a0)), (1, iv (x1)), (2, iv (x2)), (3, iv (x3))] []
  unfold f_X1_unlike at h
  obtain ⟨ho0, h⟩ := cO_some h
  refine r_aload_n X 0 dX1_unlike_0 rfl rfl ?_
  refine r_iload_n X 1 dX1_unlike_1 rfl rfl ?_
  obtain ⟨r2, h1, h⟩ := bd_some h
  refine r_cV (Wd := 0) X (fun l D sz => w_X1_isCalendar l D sz h1) ho0.1 rfl q751 qs22 q749 q104 q752 hy_X1_isCalendar rfl dX1_unlike_2 rfl rfl (Nat.le_of_ble_eq_true rfl) ⟨Nat.le_of_ble_eq_true rfl, Nat.le_of_ble_eq_true rfl⟩ ⟨Nat.le_of_ble_eq_true rfl, Nat.le_of_ble_eq_true rfl⟩ ?_
  refine r_if_eq (tgt := 28) X dX1_unlike_5 (by decide) h (fun c3 h => ?_) (fun c3 h => ?_)
  · refine r_iconst X dX1_unlike_28 ?_
    cases h
    exact r_iret X hr dX1_unlike_29
  · refine r_aload_n X 0 dX1_unlike_8 rfl rfl ?_
    refine r_iload_n X 2 dX1_unlike_9 rfl rfl ?_
    obtain ⟨r5, h4, h⟩ := bd_some h
    refine r_cV (Wd := 0) X (fun l D sz => w_X1_isCalendar l D sz h4) ho0.1 rfl q751 qs22 q749 q104 q752 hy_X1_isCalendar rfl dX1_unlike_10 rfl rfl (Nat.le_of_ble_eq_true rfl) ⟨Nat.le_of_ble_eq_true rfl, Nat.le_of_ble_eq_true rfl⟩ ⟨Nat.le_of_ble_eq_true rfl, Nat.le_of_ble_eq_true rfl⟩ ?_
    refine r_if_eq (tgt := 28) X dX1_unlike_13 (by decide) h (fun c6 h => ?_) (fun c6 h => ?_)
    · refine r_iconst X dX1_unlike_28 ?_
      cases h
      exact r_iret X hr dX1_unlike_29
    · refine r_iload_n X 3 dX1_unlike_16 rfl rfl ?_
      obtain ⟨c7, h⟩ := ck_some h
      refine r_i2l X dX1_unlike_17 c7 ?_
      refine r_lconst (y := 0) X dX1_unlike_18 rfl ?_
      refine r_ldc2 (z := 4000000) X q1181 dX1_unlike_19 rfl ?_
      obtain ⟨r9, h8, h⟩ := bd_some h
      refine r_cS (Wd := 0) X (fun l D sz => w_X1_isIn l D sz h8) q414 q413 q104 q415 hy_X1_isIn rfl dX1_unlike_22 rfl rfl (Nat.le_of_ble_eq_true rfl) ⟨Nat.le_of_ble_eq_true rfl, Nat.le_of_ble_eq_true rfl⟩ ⟨Nat.le_of_ble_eq_true rfl, Nat.le_of_ble_eq_true rfl⟩ ?_
      refine r_if_ne (tgt := 30) X dX1_unlike_25 (by decide) h (fun c10 h => ?_) (fun c10 h => ?_)
      · refine r_iconst X dX1_unlike_28 ?_
        cases h
        exact r_iret X hr dX1_unlike_29
      · refine r_iload_n X 3 dX1_unlike_30 rfl rfl ?_
        refine r_istore X dX1_unlike_31 (hL 4 (by decide)) (lv' := [(4, iv (x3)), (0, .ref (a0)), (1, iv (x1)), (2, iv (x2)), (3, iv (x3))]) rfl ?_
        have L33 : ∀ s : Int, lp (fun s => f_X1_unlike_b33 (σ) (a0) (x1) (x2) (x3) s) s = some w → V Γ (σ) 0 0 33 [(0, .ref (a0)), (1, iv (x1)), (2, iv (x2)), (3, iv (x3)), (4, iv (s))] [] := by
          refine lp_rule (P := fun s : Int => V Γ (σ) 0 0 33 [(0, .ref (a0)), (1, iv (x1)), (2, iv (x2)), (3, iv (x3)), (4, iv (s))] []) ?_
          intro s z1 h ihb1 ihe1
          obtain ⟨v4_1, es⟩ : ∃ q, q = s := ⟨s, rfl⟩
          subst es
          have h : f_X1_unlike_b33 (σ) (a0) (x1) (x2) (x3) v4_1 = some z1 := h
          unfold f_X1_unlike_b33 at h
          show V Γ σ 0 0 33 [(0, .ref (a0)), (1, iv (x1)), (2, iv (x2)), (3, iv (x3)), (4, iv (v4_1))] []
          refine r_iload X 4 dX1_unlike_33 rfl ?_
          refine r_iload_n X 3 dX1_unlike_35 rfl rfl ?_
          refine r_sipush X dX1_unlike_36 (by decide) ?_
          refine r_iadd X dX1_unlike_39 ?_
          refine r_icmp_ge (tgt := 72) X dX1_unlike_40 (by decide) h (fun c11 h => ?_) (fun c11 h => ?_)
          · refine r_aload_n X 0 dX1_unlike_43 rfl rfl ?_
            refine r_getA (kf := 4) X ho0.1 rfl (by decide) (by decide) (Or.inl q310) dX1_unlike_44 ?_
            refine r_iload_n X 1 dX1_unlike_47 rfl rfl ?_
            refine r_aald X ho0.1 (ho0.2 4 (by decide)) rfl rfl (by decide) rfl (by decide) dX1_unlike_48 h (fun b12 h => ?_)
            refine r_aload_n X 0 dX1_unlike_49 rfl rfl ?_
            refine r_getA (kf := 4) X ho0.1 rfl (by decide) (by decide) (Or.inl q310) dX1_unlike_50 ?_
            refine r_iload_n X 2 dX1_unlike_53 rfl rfl ?_
            refine r_aald X ho0.1 (ho0.2 4 (by decide)) rfl rfl (by decide) rfl (by decide) dX1_unlike_54 h (fun b13 h => ?_)
            refine r_iload X 4 dX1_unlike_55 rfl ?_
            obtain ⟨r15, h14, h⟩ := bd_some h
            refine r_cS (Wd := 0) X (fun l D sz => w_X1_isUnlike l D sz h14) q1183 q1182 q104 q1184 hy_X1_isUnlike rfl dX1_unlike_57 rfl rfl (Nat.le_of_ble_eq_true rfl) ⟨Nat.le_of_ble_eq_true rfl, Nat.le_of_ble_eq_true rfl⟩ ⟨Nat.le_of_ble_eq_true rfl, Nat.le_of_ble_eq_true rfl⟩ ?_
            refine r_if_eq (tgt := 66) X dX1_unlike_60 (by decide) h (fun c16 h => ?_) (fun c16 h => ?_)
            · refine r_iinc X 4 dX1_unlike_66 rfl (hL 4 (by decide)) (lv' := [(4, iv ((v4_1 + 1))), (0, .ref (a0)), (1, iv (x1)), (2, iv (x2)), (3, iv (x3))]) rfl ?_
              refine r_goto (tgt := 33) X dX1_unlike_69 (by decide) ?_
              exact V.sub [1, 2, 3, 4, 0] rfl (ihb1 _ (Option.some.inj h).symm)
            · have h := ex_some h ihe1
              refine r_iload X 4 dX1_unlike_63 rfl ?_
              cases h
              exact r_iret X hr dX1_unlike_65
          · have h := ex_some h ihe1
            refine r_iconst X dX1_unlike_72 ?_
            cases h
            exact r_iret X hr dX1_unlike_73
        exact V.sub [1, 2, 3, 4, 0] rfl (L33 (x3) h)
theorem hy_X1_rises : yX1_rises.cls ≠ "java/lang/invoke/MethodHandle" ∧ yX1_rises.cls ≠ "java/lang/invoke/VarHandle" ∧ (parseMethodDescriptor yX1_rises.desc).map (fun d => d.parameters.length) = some 4 := by decide +kernel
set_option maxHeartbeats 4000000 in
theorem w_X1_rises (l : Launch) (D : DD) (sz : Nat) {σ : St} {a0 : Nat} {x1 : Int} {x2 : Int} {x3 : Int} {x4 : Int} {w : Int} (h : f_X1_rises σ a0 x1 x2 x3 x4 = some w) : Mt l yX1_rises cX1_rises 9 (some FieldType.int) ({ frames := 3, cells := 0, slots := 0, locals := 42 } : Room) D sz σ [.ref a0, iv (x1), iv (x2), iv (x3), iv (x4)] (.returned (some (iv w))) (σ) 0 0 := by
  refine Mt.of (by decide +kernel) (Nat.le_of_ble_eq_true rfl) ?_
  intro Γ X hr hnl hini hnoh
  have X : Cx Γ cX1_rises "DayBoy" _ := X
  have hL : ∀ i, i < 9 → i < nLc Γ := fun i q => by rw [hnl]; exact q
  show V Γ σ 0 0 0 [(0, .ref (a0)), (1, iv (x1)), (2, iv (x2)), (3, iv (x3)), (4, iv (x4))] []
  unfold f_X1_rises at h
  obtain ⟨ho0, h⟩ := cO_some h
  refine r_aload_n X 0 dX1_rises_0 rfl rfl ?_
  refine r_iload_n X 1 dX1_rises_1 rfl rfl ?_
  obtain ⟨r2, h1, h⟩ := bd_some h
  refine r_cV (Wd := 0) X (fun l D sz => w_X1_isHead l D sz h1) ho0.1 rfl q852 qs27 q850 q104 q853 hy_X1_isHead rfl dX1_rises_2 rfl rfl (Nat.le_of_ble_eq_true rfl) ⟨Nat.le_of_ble_eq_true rfl, Nat.le_of_ble_eq_true rfl⟩ ⟨Nat.le_of_ble_eq_true rfl, Nat.le_of_ble_eq_true rfl⟩ ?_
  refine r_if_eq (tgt := 25) X dX1_rises_5 (by decide) h (fun c3 h => ?_) (fun c3 h => ?_)
  · refine r_sipush X dX1_rises_25 (by decide) ?_
    cases h
    exact r_iret X hr dX1_rises_28
  · refine r_aload_n X 0 dX1_rises_8 rfl rfl ?_
    refine r_iload_n X 2 dX1_rises_9 rfl rfl ?_
    obtain ⟨r5, h4, h⟩ := bd_some h
    refine r_cV (Wd := 0) X (fun l D sz => w_X1_isHead l D sz h4) ho0.1 rfl q852 qs27 q850 q104 q853 hy_X1_isHead rfl dX1_rises_10 rfl rfl (Nat.le_of_ble_eq_true rfl) ⟨Nat.le_of_ble_eq_true rfl, Nat.le_of_ble_eq_true rfl⟩ ⟨Nat.le_of_ble_eq_true rfl, Nat.le_of_ble_eq_true rfl⟩ ?_
    refine r_if_eq (tgt := 25) X dX1_rises_13 (by decide) h (fun c6 h => ?_) (fun c6 h => ?_)
    · refine r_sipush X dX1_rises_25 (by decide) ?_
      cases h
      exact r_iret X hr dX1_rises_28
    · refine r_iload_n X 3 dX1_rises_16 rfl rfl ?_
      refine r_iload X 4 dX1_rises_17 rfl ?_
      obtain ⟨r8, h7, h⟩ := bd_some h
      refine r_cS (Wd := 0) X (fun l D sz => w_X1_areYears l D sz h7) q1158 q1157 q104 q1159 hy_X1_areYears rfl dX1_rises_19 rfl rfl (Nat.le_of_ble_eq_true rfl) ⟨Nat.le_of_ble_eq_true rfl, Nat.le_of_ble_eq_true rfl⟩ ⟨Nat.le_of_ble_eq_true rfl, Nat.le_of_ble_eq_true rfl⟩ ?_
      refine r_if_ne (tgt := 29) X dX1_rises_22 (by decide) h (fun c9 h => ?_) (fun c9 h => ?_)
      · refine r_sipush X dX1_rises_25 (by decide) ?_
        cases h
        exact r_iret X hr dX1_rises_28
      · refine r_aload_n X 0 dX1_rises_29 rfl rfl ?_
        refine r_getA (kf := 5) X ho0.1 rfl (by decide) (by decide) (Or.inl q311) dX1_rises_30 ?_
        refine r_iload_n X 1 dX1_rises_33 rfl rfl ?_
        refine r_aald X ho0.1 (ho0.2 5 (by decide)) rfl rfl (by decide) rfl (by decide) dX1_rises_34 h (fun b10 h => ?_)
        refine r_astore X dX1_rises_35 (hL 5 (by decide)) (lv' := [(5, .ref (b10)), (0, .ref (a0)), (1, iv (x1)), (2, iv (x2)), (3, iv (x3)), (4, iv (x4))]) rfl ?_
        refine r_aload_n X 1 dX1_rises_37 rfl rfl ?_
        refine r_getA (kf := 5) X ho0.1 rfl (by decide) (by decide) (Or.inl q311) dX1_rises_38 ?_
        refine r_iload_n X 3 dX1_rises_41 rfl rfl ?_
        refine r_aald X ho0.1 (ho0.2 5 (by decide)) rfl rfl (by decide) rfl (by decide) dX1_rises_42 h (fun b11 h => ?_)
        refine r_astore X dX1_rises_43 (hL 6 (by decide)) (lv' := [(6, .ref (b11)), (5, .ref (b10)), (0, .ref (a0)), (1, iv (x1)), (2, iv (x2)), (3, iv (x3)), (4, iv (x4))]) rfl ?_
        refine r_iconst X dX1_rises_45 ?_
        refine r_istore X dX1_rises_46 (hL 7 (by decide)) (lv' := [(7, iv (0)), (6, .ref (b11)), (5, .ref (b10)), (0, .ref (a0)), (1, iv (x1)), (2, iv (x2)), (3, iv (x3)), (4, iv (x4))]) rfl ?_
        refine r_iload_n X 6 dX1_rises_48 rfl rfl ?_
        refine r_istore X dX1_rises_49 (hL 8 (by decide)) (lv' := [(8, iv (x3)), (7, iv (0)), (6, .ref (b11)), (5, .ref (b10)), (0, .ref (a0)), (1, iv (x1)), (2, iv (x2)), (3, iv (x3)), (4, iv (x4))]) rfl ?_
        have L51 : ∀ s : Int × Int, lp (fun s => f_X1_rises_b51 (σ) (x4) (b10) (b11) s.1 s.2) s = some w → V Γ (σ) 0 0 51 [(4, iv (x4)), (5, .ref (b10)), (6, .ref (b11)), (7, iv (s.1)), (8, iv (s.2))] [] := by
          refine lp_rule (P := fun s : Int × Int => V Γ (σ) 0 0 51 [(4, iv (x4)), (5, .ref (b10)), (6, .ref (b11)), (7, iv (s.1)), (8, iv (s.2))] []) ?_
          intro s z1 h ihb1 ihe1
          obtain ⟨v7_1, v8_1⟩ := s
          have h : f_X1_rises_b51 (σ) (x4) (b10) (b11) v7_1 v8_1 = some z1 := h
          unfold f_X1_rises_b51 at h
          show V Γ σ 0 0 51 [(4, iv (x4)), (5, .ref (b10)), (6, .ref (b11)), (7, iv (v7_1)), (8, iv (v8_1))] []
          refine r_iload X 4 dX1_rises_51 rfl ?_
          refine r_iload X 0 dX1_rises_53 rfl ?_
          refine r_icmp_gt (tgt := 130) X dX1_rises_55 (by decide) h (fun c12 h => ?_) (fun c12 h => ?_)
          · have h := ex_some h ihe1
            refine r_iload X 3 dX1_rises_130 rfl ?_
            cases h
            exact r_iret X hr dX1_rises_132
          · refine r_iload X 3 dX1_rises_58 rfl ?_
            refine r_aload X 1 dX1_rises_60 rfl ?_
            obtain ⟨ho13, h⟩ := cO_some h
            refine r_getA (kf := 9) X ho13.1 rfl (by decide) (by decide) (Or.inr ⟨_, q229⟩) dX1_rises_62 ?_
            refine r_iload X 4 dX1_rises_65 rfl ?_
            refine r_lald X ho13.1 (ho13.2 9 (by decide)) rfl rfl rfl (by decide) dX1_rises_67 h (fun h => ?_)
            refine r_ldc2 (z := 1000000000000) X q1171 dX1_rises_68 rfl ?_
            refine r_lcmp_ge (tgt := 120) X dX1_rises_71 dX1_rises_72 (by decide) h (fun c14 h => ?_) (fun c14 h => ?_)
            · refine r_aload X 2 dX1_rises_75 rfl ?_
              obtain ⟨ho15, h⟩ := cO_some h
              refine r_getA (kf := 9) X ho15.1 rfl (by decide) (by decide) (Or.inr ⟨_, q229⟩) dX1_rises_77 ?_
              refine r_iload X 4 dX1_rises_80 rfl ?_
              refine r_lald X ho15.1 (ho15.2 9 (by decide)) rfl rfl rfl (by decide) dX1_rises_82 h (fun h => ?_)
              refine r_ldc2 (z := 1000000000000) X q1171 dX1_rises_83 rfl ?_
              refine r_lcmp_ge (tgt := 120) X dX1_rises_86 dX1_rises_87 (by decide) h (fun c16 h => ?_) (fun c16 h => ?_)
              · refine r_aload X 1 dX1_rises_90 rfl ?_
                refine r_getA (kf := 9) X ho13.1 rfl (by decide) (by decide) (Or.inr ⟨_, q229⟩) dX1_rises_92 ?_
                refine r_iload X 4 dX1_rises_95 rfl ?_
                refine r_lald X ho13.1 (ho13.2 9 (by decide)) rfl rfl rfl (by decide) dX1_rises_97 h (fun h => ?_)
                refine r_ldc2 (z := 20000) X q903 dX1_rises_98 rfl ?_
                obtain ⟨c17, h⟩ := ck_some h
                refine r_ldiv X dX1_rises_101 c17 (by decide) (by decide) ?_
                refine r_aload X 2 dX1_rises_102 rfl ?_
                refine r_getA (kf := 9) X ho15.1 rfl (by decide) (by decide) (Or.inr ⟨_, q229⟩) dX1_rises_104 ?_
                refine r_iload X 4 dX1_rises_107 rfl ?_
                refine r_lald X ho15.1 (ho15.2 9 (by decide)) rfl rfl rfl (by decide) dX1_rises_109 h (fun h => ?_)
                refine r_ldc2 (z := 20000) X q903 dX1_rises_110 rfl ?_
                obtain ⟨c18, h⟩ := ck_some h
                refine r_ldiv X dX1_rises_113 c18 (by decide) (by decide) ?_
                obtain ⟨r20, h19, h⟩ := bd_some h
                refine r_cS (Wd := 1) X (fun l D sz => w_J6_compare l D sz h19) q1190 q1189 q126 q1191 hy_J6_compare rfl dX1_rises_114 rfl rfl (Nat.le_of_ble_eq_true rfl) ⟨Nat.le_of_ble_eq_true rfl, Nat.le_of_ble_eq_true rfl⟩ ⟨Nat.le_of_ble_eq_true rfl, Nat.le_of_ble_eq_true rfl⟩ ?_
                refine r_goto (tgt := 121) X dX1_rises_117 (by decide) ?_
                refine r_iadd X dX1_rises_121 ?_
                refine r_istore X dX1_rises_122 (hL 7 (by decide)) (lv' := [(7, iv ((v7_1 + r20))), (4, iv (x4)), (5, .ref (b10)), (6, .ref (b11)), (8, iv (v8_1))]) rfl ?_
                refine r_iinc X 4 dX1_rises_124 rfl (hL 8 (by decide)) (lv' := [(8, iv ((v8_1 + 1))), (7, iv ((v7_1 + r20))), (4, iv (x4)), (5, .ref (b10)), (6, .ref (b11))]) rfl ?_
                refine r_goto (tgt := 51) X dX1_rises_127 (by decide) ?_
                exact V.sub [2, 3, 4, 1, 0] rfl (ihb1 _ (Option.some.inj h).symm)
              · refine r_iconst X dX1_rises_120 ?_
                refine r_iadd X dX1_rises_121 ?_
                refine r_istore X dX1_rises_122 (hL 7 (by decide)) (lv' := [(7, iv ((v7_1 + 0))), (4, iv (x4)), (5, .ref (b10)), (6, .ref (b11)), (8, iv (v8_1))]) rfl ?_
                refine r_iinc X 4 dX1_rises_124 rfl (hL 8 (by decide)) (lv' := [(8, iv ((v8_1 + 1))), (7, iv ((v7_1 + 0))), (4, iv (x4)), (5, .ref (b10)), (6, .ref (b11))]) rfl ?_
                refine r_goto (tgt := 51) X dX1_rises_127 (by decide) ?_
                exact V.sub [2, 3, 4, 1, 0] rfl (ihb1 _ (Option.some.inj h).symm)
            · refine r_iconst X dX1_rises_120 ?_
              refine r_iadd X dX1_rises_121 ?_
              refine r_istore X dX1_rises_122 (hL 7 (by decide)) (lv' := [(7, iv ((v7_1 + 0))), (4, iv (x4)), (5, .ref (b10)), (6, .ref (b11)), (8, iv (v8_1))]) rfl ?_
              refine r_iinc X 4 dX1_rises_124 rfl (hL 8 (by decide)) (lv' := [(8, iv ((v8_1 + 1))), (7, iv ((v7_1 + 0))), (4, iv (x4)), (5, .ref (b10)), (6, .ref (b11))]) rfl ?_
              refine r_goto (tgt := 51) X dX1_rises_127 (by decide) ?_
              exact V.sub [2, 3, 4, 1, 0] rfl (ihb1 _ (Option.some.inj h).symm)
        exact V.sub [8, 3, 2, 1, 0] rfl (L51 (0, x3) h)
theorem hy_X1_keep : yX1_keep.cls ≠ "java/lang/invoke/MethodHandle" ∧ yX1_keep.cls ≠ "java/lang/invoke/VarHandle" ∧ (parseMethodDescriptor yX1_keep.desc).map (fun d => d.parameters.length) = some 0 := by decide +kernel
set_option maxHeartbeats 4000000 in
theorem w_X1_keep (l : Launch) (D : DD) (sz : Nat) {σ : St} {a0 : Nat} {w : Int × St} (h : f_X1_keep σ a0 = some w) : Mt l yX1_keep cX1_keep 1 (some FieldType.int) ({ frames := 0, cells := 0, slots := 0, locals := 0 } : Room) D sz σ [.ref a0] (.returned (some (iv w.1))) (w.2) 0 0 := by
  refine Mt.of (by decide +kernel) (Nat.le_of_ble_eq_true rfl) ?_
  intro Γ X hr hnl hini hnoh
  have X : Cx Γ cX1_keep "DayBoy" _ := X
  have hL : ∀ i, i < 1 → i < nLc Γ := fun i q => by rw [hnl]; exact q
  show V Γ σ 0 0 0 [(0, .ref (a0))] []
  unfold f_X1_keep at h
  obtain ⟨ho0, h⟩ := cO_some h
  refine r_aload_n X 0 dX1_keep_0 rfl rfl ?_
  refine r_aload_n X 0 dX1_keep_1 rfl rfl ?_
  refine r_getI (kf := 13) X ho0.1 rfl (by decide) rfl (Or.inl q320) dX1_keep_2 ?_
  refine r_putI (kf := 26) X ho0.1 rfl (by decide) rfl rfl (Or.inl q333) dX1_keep_5 rfl ?_
  refine r_let h (fun σ1 eσ1 h => ?_)
  refine r_aload_n X 0 dX1_keep_8 rfl rfl ?_
  refine r_aload_n X 0 dX1_keep_9 rfl rfl ?_
  have hk2 : oc σ1 (a0) 0 := by rw [eσ1]; exact ho0
  refine r_getI (kf := 25) X hk2.1 rfl (by decide) rfl (Or.inl q332) dX1_keep_10 ?_
  refine r_putI (kf := 27) X hk2.1 rfl (by decide) rfl rfl (Or.inl q334) dX1_keep_13 rfl ?_
  refine r_let h (fun σ3 eσ3 h => ?_)
  refine r_aload_n X 0 dX1_keep_16 rfl rfl ?_
  have hk4 : oc σ3 (a0) 0 := by rw [eσ3]; exact hk2
  refine r_getI (kf := 13) X hk4.1 rfl (by decide) rfl (Or.inl q320) dX1_keep_17 ?_
  refine r_aload_n X 0 dX1_keep_20 rfl rfl ?_
  refine r_getI (kf := 25) X hk4.1 rfl (by decide) rfl (Or.inl q332) dX1_keep_21 ?_
  refine r_iadd X dX1_keep_24 ?_
  cases h
  exact r_iret X hr dX1_keep_25
theorem hy_X1_back : yX1_back.cls ≠ "java/lang/invoke/MethodHandle" ∧ yX1_back.cls ≠ "java/lang/invoke/VarHandle" ∧ (parseMethodDescriptor yX1_back.desc).map (fun d => d.parameters.length) = some 0 := by decide +kernel
set_option maxHeartbeats 4000000 in
theorem w_X1_back (l : Launch) (D : DD) (sz : Nat) {σ : St} {a0 : Nat} {w : Int × St} (h : f_X1_back σ a0 = some w) : Mt l yX1_back cX1_back 1 (some FieldType.int) ({ frames := 0, cells := 0, slots := 0, locals := 0 } : Room) D sz σ [.ref a0] (.returned (some (iv w.1))) (w.2) 0 0 := by
  refine Mt.of (by decide +kernel) (Nat.le_of_ble_eq_true rfl) ?_
  intro Γ X hr hnl hini hnoh
  have X : Cx Γ cX1_back "DayBoy" _ := X
  have hL : ∀ i, i < 1 → i < nLc Γ := fun i q => by rw [hnl]; exact q
  show V Γ σ 0 0 0 [(0, .ref (a0))] []
  unfold f_X1_back at h
  obtain ⟨ho0, h⟩ := cO_some h
  refine r_aload_n X 0 dX1_back_0 rfl rfl ?_
  refine r_aload_n X 0 dX1_back_1 rfl rfl ?_
  refine r_getI (kf := 26) X ho0.1 rfl (by decide) rfl (Or.inl q333) dX1_back_2 ?_
  refine r_putI (kf := 13) X ho0.1 rfl (by decide) rfl rfl (Or.inl q320) dX1_back_5 rfl ?_
  refine r_let h (fun σ1 eσ1 h => ?_)
  refine r_aload_n X 0 dX1_back_8 rfl rfl ?_
  refine r_aload_n X 0 dX1_back_9 rfl rfl ?_
  have hk2 : oc σ1 (a0) 0 := by rw [eσ1]; exact ho0
  refine r_getI (kf := 27) X hk2.1 rfl (by decide) rfl (Or.inl q334) dX1_back_10 ?_
  refine r_putI (kf := 25) X hk2.1 rfl (by decide) rfl rfl (Or.inl q332) dX1_back_13 rfl ?_
  refine r_let h (fun σ3 eσ3 h => ?_)
  refine r_aload_n X 0 dX1_back_16 rfl rfl ?_
  have hk4 : oc σ3 (a0) 0 := by rw [eσ3]; exact hk2
  refine r_getI (kf := 13) X hk4.1 rfl (by decide) rfl (Or.inl q320) dX1_back_17 ?_
  refine r_aload_n X 0 dX1_back_20 rfl rfl ?_
  refine r_getI (kf := 25) X hk4.1 rfl (by decide) rfl (Or.inl q332) dX1_back_21 ?_
  refine r_iadd X dX1_back_24 ?_
  cases h
  exact r_iret X hr dX1_back_25
theorem hy_X1_count : yX1_count.cls ≠ "java/lang/invoke/MethodHandle" ∧ yX1_count.cls ≠ "java/lang/invoke/VarHandle" ∧ (parseMethodDescriptor yX1_count.desc).map (fun d => d.parameters.length) = some 1 := by decide +kernel
set_option maxHeartbeats 4000000 in
theorem w_X1_count (l : Launch) (D : DD) (sz : Nat) {σ : St} {a0 : Nat} {x1 : Int} {w : Int} (h : f_X1_count σ a0 x1 = some w) : Mt l yX1_count cX1_count 2 (some FieldType.int) ({ frames := 0, cells := 0, slots := 0, locals := 0 } : Room) D sz σ [.ref a0, iv (x1)] (.returned (some (iv w))) (σ) 0 0 := by
  refine Mt.of (by decide +kernel) (Nat.le_of_ble_eq_true rfl) ?_
  intro Γ X hr hnl hini hnoh
  have X : Cx Γ cX1_count "DayBoy" _ := X
  have hL : ∀ i, i < 2 → i < nLc Γ := fun i q => by rw [hnl]; exact q
  show V Γ σ 0 0 0 [(0, .ref (a0)), (1, iv (x1))] []
  unfold f_X1_count at h
  obtain ⟨ho0, h⟩ := cO_some h
  refine r_iload_n X 1 dX1_count_0 rfl rfl ?_
  obtain ⟨hrc2, -, hA, h⟩ := cEq_some h
  by_cases c2 : (x1) = 0
  · have h := hA c2
    refine r_tabIn (tgt := 48) X dX1_count_1 hrc2 0 c2 (by decide) (by decide) rfl (by decide) ?_
    refine r_aload_n X 0 dX1_count_48 rfl rfl ?_
    refine r_getI (kf := 6) X ho0.1 rfl (by decide) rfl (Or.inl q312) dX1_count_49 ?_
    cases h
    exact r_iret X hr dX1_count_52
  have h := h c2
  obtain ⟨hrc3, -, hA, h⟩ := cEq_some h
  by_cases c3 : (x1) = 1
  · have h := hA c3
    refine r_tabIn (tgt := 53) X dX1_count_1 hrc3 1 c3 (by decide) (by decide) rfl (by decide) ?_
    refine r_aload_n X 0 dX1_count_53 rfl rfl ?_
    refine r_getI (kf := 7) X ho0.1 rfl (by decide) rfl (Or.inl q313) dX1_count_54 ?_
    cases h
    exact r_iret X hr dX1_count_57
  have h := h c3
  obtain ⟨hrc4, -, hA, h⟩ := cEq_some h
  by_cases c4 : (x1) = 2
  · have h := hA c4
    refine r_tabIn (tgt := 58) X dX1_count_1 hrc4 2 c4 (by decide) (by decide) rfl (by decide) ?_
    refine r_aload_n X 0 dX1_count_58 rfl rfl ?_
    refine r_getI (kf := 13) X ho0.1 rfl (by decide) rfl (Or.inl q320) dX1_count_59 ?_
    cases h
    exact r_iret X hr dX1_count_62
  have h := h c4
  obtain ⟨hrc5, -, hA, h⟩ := cEq_some h
  by_cases c5 : (x1) = 3
  · have h := hA c5
    refine r_tabIn (tgt := 63) X dX1_count_1 hrc5 3 c5 (by decide) (by decide) rfl (by decide) ?_
    refine r_aload_n X 0 dX1_count_63 rfl rfl ?_
    refine r_getI (kf := 20) X ho0.1 rfl (by decide) rfl (Or.inl q327) dX1_count_64 ?_
    cases h
    exact r_iret X hr dX1_count_67
  have h := h c5
  obtain ⟨hrc6, -, hA, h⟩ := cEq_some h
  by_cases c6 : (x1) = 4
  · have h := hA c6
    refine r_tabIn (tgt := 68) X dX1_count_1 hrc6 4 c6 (by decide) (by decide) rfl (by decide) ?_
    refine r_aload_n X 0 dX1_count_68 rfl rfl ?_
    refine r_getI (kf := 25) X ho0.1 rfl (by decide) rfl (Or.inl q332) dX1_count_69 ?_
    cases h
    exact r_iret X hr dX1_count_72
  have h := h c6
  obtain ⟨hrc7, -, hA, h⟩ := cEq_some h
  by_cases c7 : (x1) = 5
  · have h := hA c7
    refine r_tabIn (tgt := 73) X dX1_count_1 hrc7 5 c7 (by decide) (by decide) rfl (by decide) ?_
    refine r_aload_n X 0 dX1_count_73 rfl rfl ?_
    refine r_getI (kf := 1) X ho0.1 rfl (by decide) rfl (Or.inl q305) dX1_count_74 ?_
    cases h
    exact r_iret X hr dX1_count_77
  have h := h c7
  obtain ⟨hrc8, -, hA, h⟩ := cEq_some h
  by_cases c8 : (x1) = 6
  · have h := hA c8
    refine r_tabIn (tgt := 78) X dX1_count_1 hrc8 6 c8 (by decide) (by decide) rfl (by decide) ?_
    refine r_aload_n X 0 dX1_count_78 rfl rfl ?_
    refine r_getI (kf := 14) X ho0.1 rfl (by decide) rfl (Or.inl q321) dX1_count_79 ?_
    cases h
    exact r_iret X hr dX1_count_82
  have h := h c8
  obtain ⟨hrc9, -, hA, h⟩ := cEq_some h
  by_cases c9 : (x1) = 7
  · have h := hA c9
    refine r_tabIn (tgt := 83) X dX1_count_1 hrc9 7 c9 (by decide) (by decide) rfl (by decide) ?_
    refine r_aload_n X 0 dX1_count_83 rfl rfl ?_
    refine r_getI (kf := 10) X ho0.1 rfl (by decide) rfl (Or.inl q317) dX1_count_84 ?_
    cases h
    exact r_iret X hr dX1_count_87
  have h := h c9
  refine r_tabOut (tgt := 88) X dX1_count_1 hrc2 (by omega) (by decide) ?_
  refine r_sipush X dX1_count_88 (by decide) ?_
  cases h
  exact r_iret X hr dX1_count_91
theorem hy_X10_init : yX10_init.cls ≠ "java/lang/invoke/MethodHandle" ∧ yX10_init.cls ≠ "java/lang/invoke/VarHandle" ∧ (parseMethodDescriptor yX10_init.desc).map (fun d => d.parameters.length) = some 2 := by decide +kernel
set_option maxHeartbeats 4000000 in
theorem w_X10_init (l : Launch) (D : DD) (sz : Nat) {σ : St} {a0 : Nat} {x1 : Int} {x2 : Int} {w : St} (h : f_X10_init σ a0 x1 x2 = some w) : Mt l yX10_init cX10_init 3 none ({ frames := 2, cells := 0, slots := 0, locals := 24 } : Room) D sz σ [.ref a0, iv (x1), iv (x2)] (.returned none) (w) 0 0 := by
  refine Mt.of (by decide +kernel) (Nat.le_of_ble_eq_true rfl) ?_
  intro Γ X hr hnl hini hnoh
  have X : Cx Γ cX10_init "DayBoy$Range" _ := X
  have hL : ∀ i, i < 3 → i < nLc Γ := fun i q => by rw [hnl]; exact q
  have hini := hini rfl
  show V Γ σ 0 0 0 [(0, .ref (a0)), (1, iv (x1)), (2, iv (x2))] []
  unfold f_X10_init at h
  obtain ⟨hc0, h⟩ := ck_some h
  refine r_aload_n X 0 dX10_init_0 rfl rfl ?_
  obtain ⟨r2, h1, h⟩ := bd_some h
  refine r_cIN (Wd := 0) X (fun l D sz => w_X9_init l D sz h1) rfl rfl q618 q617 q116 q619 hy_X9_init rfl dX10_init_1 rfl rfl (Nat.le_of_ble_eq_true rfl) ⟨Nat.le_of_ble_eq_true rfl, Nat.le_of_ble_eq_true rfl⟩ ⟨Nat.le_of_ble_eq_true rfl, Nat.le_of_ble_eq_true rfl⟩ ?_
  refine r_aload_n X 0 dX10_init_4 rfl rfl ?_
  refine r_iload_n X 1 dX10_init_5 rfl rfl ?_
  refine r_putIF (kf := 0) X hini hc0 rfl (by decide) rfl rfl q621 rfl dX10_init_6 rfl ?_
  refine r_let h (fun σ3 eσ3 h => ?_)
  refine r_aload_n X 0 dX10_init_9 rfl rfl ?_
  refine r_iload_n X 2 dX10_init_10 rfl rfl ?_
  have hk4 : cL σ3 (a0) = some 8 := by rw [eσ3]; exact hc0
  refine r_putIF (kf := 1) X hini hk4 rfl (by decide) rfl rfl q622 rfl dX10_init_11 rfl ?_
  refine r_let h (fun σ5 eσ5 h => ?_)
  cases h
  exact r_vret X hr dX10_init_14
theorem hy_X10_joins : yX10_joins.cls ≠ "java/lang/invoke/MethodHandle" ∧ yX10_joins.cls ≠ "java/lang/invoke/VarHandle" ∧ (parseMethodDescriptor yX10_joins.desc).map (fun d => d.parameters.length) = some 1 := by decide +kernel
set_option maxHeartbeats 4000000 in
theorem w_X10_joins (l : Launch) (D : DD) (sz : Nat) {σ : St} {a0 : Nat} {p1 : Nat} {w : St} (h : f_X10_joins σ a0 p1 = some w) : Mt l yX10_joins cX10_joins 2 none ({ frames := 0, cells := 0, slots := 0, locals := 0 } : Room) D sz σ [.ref a0, .ref (p1)] (.returned none) (w) 0 0 := by
  refine Mt.of (by decide +kernel) (Nat.le_of_ble_eq_true rfl) ?_
  intro Γ X hr hnl hini hnoh
  have X : Cx Γ cX10_joins "DayBoy$Range" _ := X
  have hL : ∀ i, i < 2 → i < nLc Γ := fun i q => by rw [hnl]; exact q
  show V Γ σ 0 0 0 [(0, .ref (a0)), (1, .ref (p1))] []
  unfold f_X10_joins at h
  obtain ⟨ho0, h⟩ := cO_some h
  refine r_aload_n X 1 dX10_joins_0 rfl rfl ?_
  obtain ⟨ho1, h⟩ := cO_some h
  refine r_getA (kf := 0) X ho1.1 rfl (by decide) (by decide) (Or.inr ⟨_, q204⟩) dX10_joins_1 ?_
  refine r_aload_n X 1 dX10_joins_4 rfl rfl ?_
  refine r_getI (kf := 13) X ho1.1 rfl (by decide) rfl (Or.inr ⟨_, q234⟩) dX10_joins_5 ?_
  refine r_aload_n X 0 dX10_joins_8 rfl rfl ?_
  refine r_getI (kf := 0) X ho0.1 rfl (by decide) rfl (Or.inl q621) dX10_joins_9 ?_
  refine r_iast X ho1.1 (ho1.2 0 (by decide)) rfl rfl rfl (by decide) dX10_joins_12 h (fun h => ?_)
  refine r_let h (fun σ2 eσ2 h => ?_)
  refine r_aload_n X 1 dX10_joins_13 rfl rfl ?_
  have hk3 : oc σ2 (p1) 4 := by rw [eσ2]; exact ho1
  refine r_getA (kf := 1) X hk3.1 rfl (by decide) (by decide) (Or.inr ⟨_, q206⟩) dX10_joins_14 ?_
  refine r_aload_n X 1 dX10_joins_17 rfl rfl ?_
  refine r_getI (kf := 13) X hk3.1 rfl (by decide) rfl (Or.inr ⟨_, q234⟩) dX10_joins_18 ?_
  refine r_aload_n X 0 dX10_joins_21 rfl rfl ?_
  have hk4 : oc σ2 (a0) 8 := by rw [eσ2]; exact ho0
  refine r_getI (kf := 1) X hk4.1 rfl (by decide) rfl (Or.inl q622) dX10_joins_22 ?_
  refine r_iast X hk3.1 (hk3.2 1 (by decide)) rfl rfl rfl (by decide) dX10_joins_25 h (fun h => ?_)
  refine r_let h (fun σ5 eσ5 h => ?_)
  refine r_aload_n X 1 dX10_joins_26 rfl rfl ?_
  refine r_dup X dX10_joins_27 rfl ?_
  have hk6 : oc σ5 (p1) 4 := by rw [eσ5]; exact hk3
  refine r_getI (kf := 13) X hk6.1 rfl (by decide) rfl (Or.inr ⟨_, q234⟩) dX10_joins_28 ?_
  refine r_iconst X dX10_joins_31 ?_
  refine r_iadd X dX10_joins_32 ?_
  refine r_putI (kf := 13) X hk6.1 rfl (by decide) rfl rfl (Or.inr ⟨_, q234⟩) dX10_joins_33 rfl ?_
  refine r_let h (fun σ7 eσ7 h => ?_)
  cases h
  exact r_vret X hr dX10_joins_36
theorem hy_X12_init : yX12_init.cls ≠ "java/lang/invoke/MethodHandle" ∧ yX12_init.cls ≠ "java/lang/invoke/VarHandle" ∧ (parseMethodDescriptor yX12_init.desc).map (fun d => d.parameters.length) = some 3 := by decide +kernel
set_option maxHeartbeats 4000000 in
theorem w_X12_init (l : Launch) (D : DD) (sz : Nat) {σ : St} {a0 : Nat} {x1 : Int} {x2 : Int} {x3 : Int} {w : St} (h : f_X12_init σ a0 x1 x2 x3 = some w) : Mt l yX12_init cX12_init 4 none ({ frames := 2, cells := 0, slots := 0, locals := 24 } : Room) D sz σ [.ref a0, iv (x1), iv (x2), iv (x3)] (.returned none) (w) 0 0 := by
  refine Mt.of (by decide +kernel) (Nat.le_of_ble_eq_true rfl) ?_
  intro Γ X hr hnl hini hnoh
  have X : Cx Γ cX12_init "DayBoy$Alike" _ := X
  have hL : ∀ i, i < 4 → i < nLc Γ := fun i q => by rw [hnl]; exact q
  have hini := hini rfl
  show V Γ σ 0 0 0 [(0, .ref (a0)), (1, iv (x1)), (2, iv (x2)), (3, iv (x3))] []
  unfold f_X12_init at h
  obtain ⟨hc0, h⟩ := ck_some h
  refine r_aload_n X 0 dX12_init_0 rfl rfl ?_
  obtain ⟨r2, h1, h⟩ := bd_some h
  refine r_cIN (Wd := 0) X (fun l D sz => w_X9_init l D sz h1) rfl rfl q618 q654 q116 q619 hy_X9_init rfl dX12_init_1 rfl rfl (Nat.le_of_ble_eq_true rfl) ⟨Nat.le_of_ble_eq_true rfl, Nat.le_of_ble_eq_true rfl⟩ ⟨Nat.le_of_ble_eq_true rfl, Nat.le_of_ble_eq_true rfl⟩ ?_
  refine r_aload_n X 0 dX12_init_4 rfl rfl ?_
  refine r_iload_n X 1 dX12_init_5 rfl rfl ?_
  refine r_putIF (kf := 0) X hini hc0 rfl (by decide) rfl rfl q655 rfl dX12_init_6 rfl ?_
  refine r_let h (fun σ3 eσ3 h => ?_)
  refine r_aload_n X 0 dX12_init_9 rfl rfl ?_
  refine r_iload_n X 2 dX12_init_10 rfl rfl ?_
  have hk4 : cL σ3 (a0) = some 10 := by rw [eσ3]; exact hc0
  refine r_putIF (kf := 1) X hini hk4 rfl (by decide) rfl rfl q656 rfl dX12_init_11 rfl ?_
  refine r_let h (fun σ5 eσ5 h => ?_)
  refine r_aload_n X 0 dX12_init_14 rfl rfl ?_
  refine r_iload_n X 3 dX12_init_15 rfl rfl ?_
  have hk6 : cL σ5 (a0) = some 10 := by rw [eσ5]; exact hk4
  refine r_putIF (kf := 2) X hini hk6 rfl (by decide) rfl rfl q657 rfl dX12_init_16 rfl ?_
  refine r_let h (fun σ7 eσ7 h => ?_)
  cases h
  exact r_vret X hr dX12_init_19
theorem hy_X12_joins : yX12_joins.cls ≠ "java/lang/invoke/MethodHandle" ∧ yX12_joins.cls ≠ "java/lang/invoke/VarHandle" ∧ (parseMethodDescriptor yX12_joins.desc).map (fun d => d.parameters.length) = some 1 := by decide +kernel
set_option maxHeartbeats 4000000 in
theorem w_X12_joins (l : Launch) (D : DD) (sz : Nat) {σ : St} {a0 : Nat} {p1 : Nat} {w : St} (h : f_X12_joins σ a0 p1 = some w) : Mt l yX12_joins cX12_joins 2 none ({ frames := 0, cells := 0, slots := 0, locals := 0 } : Room) D sz σ [.ref a0, .ref (p1)] (.returned none) (w) 0 0 := by
  refine Mt.of (by decide +kernel) (Nat.le_of_ble_eq_true rfl) ?_
  intro Γ X hr hnl hini hnoh
  have X : Cx Γ cX12_joins "DayBoy$Alike" _ := X
  have hL : ∀ i, i < 2 → i < nLc Γ := fun i q => by rw [hnl]; exact q
  show V Γ σ 0 0 0 [(0, .ref (a0)), (1, .ref (p1))] []
  unfold f_X12_joins at h
  obtain ⟨ho0, h⟩ := cO_some h
  refine r_aload_n X 1 dX12_joins_0 rfl rfl ?_
  obtain ⟨ho1, h⟩ := cO_some h
  refine r_getA (kf := 4) X ho1.1 rfl (by decide) (by decide) (Or.inr ⟨_, q215⟩) dX12_joins_1 ?_
  refine r_aload_n X 1 dX12_joins_4 rfl rfl ?_
  refine r_getI (kf := 15) X ho1.1 rfl (by decide) rfl (Or.inr ⟨_, q241⟩) dX12_joins_5 ?_
  refine r_aload_n X 0 dX12_joins_8 rfl rfl ?_
  refine r_getI (kf := 0) X ho0.1 rfl (by decide) rfl (Or.inl q655) dX12_joins_9 ?_
  refine r_iast X ho1.1 (ho1.2 4 (by decide)) rfl rfl rfl (by decide) dX12_joins_12 h (fun h => ?_)
  refine r_let h (fun σ2 eσ2 h => ?_)
  refine r_aload_n X 1 dX12_joins_13 rfl rfl ?_
  have hk3 : oc σ2 (p1) 4 := by rw [eσ2]; exact ho1
  refine r_getA (kf := 5) X hk3.1 rfl (by decide) (by decide) (Or.inr ⟨_, q218⟩) dX12_joins_14 ?_
  refine r_aload_n X 1 dX12_joins_17 rfl rfl ?_
  refine r_getI (kf := 15) X hk3.1 rfl (by decide) rfl (Or.inr ⟨_, q241⟩) dX12_joins_18 ?_
  refine r_aload_n X 0 dX12_joins_21 rfl rfl ?_
  have hk4 : oc σ2 (a0) 10 := by rw [eσ2]; exact ho0
  refine r_getI (kf := 1) X hk4.1 rfl (by decide) rfl (Or.inl q656) dX12_joins_22 ?_
  refine r_iast X hk3.1 (hk3.2 5 (by decide)) rfl rfl rfl (by decide) dX12_joins_25 h (fun h => ?_)
  refine r_let h (fun σ5 eσ5 h => ?_)
  refine r_aload_n X 1 dX12_joins_26 rfl rfl ?_
  have hk6 : oc σ5 (p1) 4 := by rw [eσ5]; exact hk3
  refine r_getA (kf := 6) X hk6.1 rfl (by decide) (by decide) (Or.inr ⟨_, q221⟩) dX12_joins_27 ?_
  refine r_aload_n X 1 dX12_joins_30 rfl rfl ?_
  refine r_getI (kf := 15) X hk6.1 rfl (by decide) rfl (Or.inr ⟨_, q241⟩) dX12_joins_31 ?_
  refine r_aload_n X 0 dX12_joins_34 rfl rfl ?_
  have hk7 : oc σ5 (a0) 10 := by rw [eσ5]; exact hk4
  refine r_getI (kf := 2) X hk7.1 rfl (by decide) rfl (Or.inl q657) dX12_joins_35 ?_
  refine r_iast X hk6.1 (hk6.2 6 (by decide)) rfl rfl rfl (by decide) dX12_joins_38 h (fun h => ?_)
  refine r_let h (fun σ8 eσ8 h => ?_)
  refine r_aload_n X 1 dX12_joins_39 rfl rfl ?_
  refine r_dup X dX12_joins_40 rfl ?_
  have hk9 : oc σ8 (p1) 4 := by rw [eσ8]; exact hk6
  refine r_getI (kf := 15) X hk9.1 rfl (by decide) rfl (Or.inr ⟨_, q241⟩) dX12_joins_41 ?_
  refine r_iconst X dX12_joins_44 ?_
  refine r_iadd X dX12_joins_45 ?_
  refine r_putI (kf := 15) X hk9.1 rfl (by decide) rfl rfl (Or.inr ⟨_, q241⟩) dX12_joins_46 rfl ?_
  refine r_let h (fun σ10 eσ10 h => ?_)
  cases h
  exact r_vret X hr dX12_joins_49
theorem hy_X13_init : yX13_init.cls ≠ "java/lang/invoke/MethodHandle" ∧ yX13_init.cls ≠ "java/lang/invoke/VarHandle" ∧ (parseMethodDescriptor yX13_init.desc).map (fun d => d.parameters.length) = some 1 := by decide +kernel
set_option maxHeartbeats 4000000 in
theorem w_X13_init (l : Launch) (D : DD) (sz : Nat) {σ : St} {a0 : Nat} {x1 : Int} {w : St} (h : f_X13_init σ a0 x1 = some w) : Mt l yX13_init cX13_init 2 none ({ frames := 2, cells := 0, slots := 0, locals := 24 } : Room) D sz σ [.ref a0, iv (x1)] (.returned none) (w) 0 0 := by
  refine Mt.of (by decide +kernel) (Nat.le_of_ble_eq_true rfl) ?_
  intro Γ X hr hnl hini hnoh
  have X : Cx Γ cX13_init "DayBoy$Own" _ := X
  have hL : ∀ i, i < 2 → i < nLc Γ := fun i q => by rw [hnl]; exact q
  have hini := hini rfl
  show V Γ σ 0 0 0 [(0, .ref (a0)), (1, iv (x1))] []
  unfold f_X13_init at h
  obtain ⟨hc0, h⟩ := ck_some h
  refine r_aload_n X 0 dX13_init_0 rfl rfl ?_
  obtain ⟨r2, h1, h⟩ := bd_some h
  refine r_cIN (Wd := 0) X (fun l D sz => w_X9_init l D sz h1) rfl rfl q618 q674 q116 q619 hy_X9_init rfl dX13_init_1 rfl rfl (Nat.le_of_ble_eq_true rfl) ⟨Nat.le_of_ble_eq_true rfl, Nat.le_of_ble_eq_true rfl⟩ ⟨Nat.le_of_ble_eq_true rfl, Nat.le_of_ble_eq_true rfl⟩ ?_
  refine r_aload_n X 0 dX13_init_4 rfl rfl ?_
  refine r_iload_n X 1 dX13_init_5 rfl rfl ?_
  refine r_putIF (kf := 0) X hini hc0 rfl (by decide) rfl rfl q675 rfl dX13_init_6 rfl ?_
  refine r_let h (fun σ3 eσ3 h => ?_)
  cases h
  exact r_vret X hr dX13_init_9
theorem hy_X13_joins : yX13_joins.cls ≠ "java/lang/invoke/MethodHandle" ∧ yX13_joins.cls ≠ "java/lang/invoke/VarHandle" ∧ (parseMethodDescriptor yX13_joins.desc).map (fun d => d.parameters.length) = some 1 := by decide +kernel
set_option maxHeartbeats 4000000 in
theorem w_X13_joins (l : Launch) (D : DD) (sz : Nat) {σ : St} {a0 : Nat} {p1 : Nat} {w : St} (h : f_X13_joins σ a0 p1 = some w) : Mt l yX13_joins cX13_joins 2 none ({ frames := 0, cells := 0, slots := 0, locals := 0 } : Room) D sz σ [.ref a0, .ref (p1)] (.returned none) (w) 0 0 := by
  refine Mt.of (by decide +kernel) (Nat.le_of_ble_eq_true rfl) ?_
  intro Γ X hr hnl hini hnoh
  have X : Cx Γ cX13_joins "DayBoy$Own" _ := X
  have hL : ∀ i, i < 2 → i < nLc Γ := fun i q => by rw [hnl]; exact q
  show V Γ σ 0 0 0 [(0, .ref (a0)), (1, .ref (p1))] []
  unfold f_X13_joins at h
  obtain ⟨ho0, h⟩ := cO_some h
  refine r_aload_n X 1 dX13_joins_0 rfl rfl ?_
  obtain ⟨ho1, h⟩ := cO_some h
  refine r_getA (kf := 8) X ho1.1 rfl (by decide) (by decide) (Or.inr ⟨_, q226⟩) dX13_joins_1 ?_
  refine r_aload_n X 0 dX13_joins_4 rfl rfl ?_
  refine r_getI (kf := 0) X ho0.1 rfl (by decide) rfl (Or.inl q675) dX13_joins_5 ?_
  refine r_iconst X dX13_joins_8 ?_
  refine r_zast X ho1.1 (ho1.2 8 (by decide)) rfl rfl rfl (by decide) dX13_joins_9 h (fun h => ?_)
  refine r_let h (fun σ2 eσ2 h => ?_)
  cases h
  exact r_vret X hr dX13_joins_10
theorem hy_X14_init : yX14_init.cls ≠ "java/lang/invoke/MethodHandle" ∧ yX14_init.cls ≠ "java/lang/invoke/VarHandle" ∧ (parseMethodDescriptor yX14_init.desc).map (fun d => d.parameters.length) = some 2 := by decide +kernel
set_option maxHeartbeats 4000000 in
theorem w_X14_init (l : Launch) (D : DD) (sz : Nat) {σ : St} {a0 : Nat} {x1 : Int} {x2 : Int} {w : St} (h : f_X14_init σ a0 x1 x2 = some w) : Mt l yX14_init cX14_init 3 none ({ frames := 2, cells := 0, slots := 0, locals := 24 } : Room) D sz σ [.ref a0, iv (x1), iv (x2)] (.returned none) (w) 0 0 := by
  refine Mt.of (by decide +kernel) (Nat.le_of_ble_eq_true rfl) ?_
  intro Γ X hr hnl hini hnoh
  have X : Cx Γ cX14_init "DayBoy$Cost" _ := X
  have hL : ∀ i, i < 3 → i < nLc Γ := fun i q => by rw [hnl]; exact q
  have hini := hini rfl
  show V Γ σ 0 0 0 [(0, .ref (a0)), (1, iv (x1)), (2, iv (x2))] []
  unfold f_X14_init at h
  obtain ⟨hc0, h⟩ := ck_some h
  refine r_aload_n X 0 dX14_init_0 rfl rfl ?_
  obtain ⟨r2, h1, h⟩ := bd_some h
  refine r_cIN (Wd := 0) X (fun l D sz => w_X9_init l D sz h1) rfl rfl q618 q684 q116 q619 hy_X9_init rfl dX14_init_1 rfl rfl (Nat.le_of_ble_eq_true rfl) ⟨Nat.le_of_ble_eq_true rfl, Nat.le_of_ble_eq_true rfl⟩ ⟨Nat.le_of_ble_eq_true rfl, Nat.le_of_ble_eq_true rfl⟩ ?_
  refine r_aload_n X 0 dX14_init_4 rfl rfl ?_
  refine r_iload_n X 1 dX14_init_5 rfl rfl ?_
  refine r_putIF (kf := 0) X hini hc0 rfl (by decide) rfl rfl q685 rfl dX14_init_6 rfl ?_
  refine r_let h (fun σ3 eσ3 h => ?_)
  refine r_aload_n X 0 dX14_init_9 rfl rfl ?_
  refine r_iload_n X 2 dX14_init_10 rfl rfl ?_
  have hk4 : cL σ3 (a0) = some 12 := by rw [eσ3]; exact hc0
  refine r_putIF (kf := 1) X hini hk4 rfl (by decide) rfl rfl q686 rfl dX14_init_11 rfl ?_
  refine r_let h (fun σ5 eσ5 h => ?_)
  cases h
  exact r_vret X hr dX14_init_14
theorem hy_X14_joins : yX14_joins.cls ≠ "java/lang/invoke/MethodHandle" ∧ yX14_joins.cls ≠ "java/lang/invoke/VarHandle" ∧ (parseMethodDescriptor yX14_joins.desc).map (fun d => d.parameters.length) = some 1 := by decide +kernel
set_option maxHeartbeats 4000000 in
theorem w_X14_joins (l : Launch) (D : DD) (sz : Nat) {σ : St} {a0 : Nat} {p1 : Nat} {w : St} (h : f_X14_joins σ a0 p1 = some w) : Mt l yX14_joins cX14_joins 2 none ({ frames := 0, cells := 0, slots := 0, locals := 0 } : Room) D sz σ [.ref a0, .ref (p1)] (.returned none) (w) 0 0 := by
  refine Mt.of (by decide +kernel) (Nat.le_of_ble_eq_true rfl) ?_
  intro Γ X hr hnl hini hnoh
  have X : Cx Γ cX14_joins "DayBoy$Cost" _ := X
  have hL : ∀ i, i < 2 → i < nLc Γ := fun i q => by rw [hnl]; exact q
  show V Γ σ 0 0 0 [(0, .ref (a0)), (1, .ref (p1))] []
  unfold f_X14_joins at h
  obtain ⟨ho0, h⟩ := cO_some h
  refine r_aload_n X 1 dX14_joins_0 rfl rfl ?_
  obtain ⟨ho1, h⟩ := cO_some h
  refine r_getA (kf := 7) X ho1.1 rfl (by decide) (by decide) (Or.inr ⟨_, q223⟩) dX14_joins_1 ?_
  refine r_aload_n X 0 dX14_joins_4 rfl rfl ?_
  refine r_getI (kf := 0) X ho0.1 rfl (by decide) rfl (Or.inl q685) dX14_joins_5 ?_
  refine r_aload_n X 0 dX14_joins_8 rfl rfl ?_
  refine r_getI (kf := 1) X ho0.1 rfl (by decide) rfl (Or.inl q686) dX14_joins_9 ?_
  refine r_iast X ho1.1 (ho1.2 7 (by decide)) rfl rfl rfl (by decide) dX14_joins_12 h (fun h => ?_)
  refine r_let h (fun σ2 eσ2 h => ?_)
  cases h
  exact r_vret X hr dX14_joins_13
theorem hy_X3_begin : yX3_begin.cls ≠ "java/lang/invoke/MethodHandle" ∧ yX3_begin.cls ≠ "java/lang/invoke/VarHandle" ∧ (parseMethodDescriptor yX3_begin.desc).map (fun d => d.parameters.length) = some 1 := by decide +kernel
set_option maxHeartbeats 4000000 in
theorem w_X3_begin (l : Launch) (D : DD) (sz : Nat) {σ : St} {a0 : Nat} {x1 : Int} {w : St} (h : f_X3_begin σ a0 x1 = some w) : Mt l yX3_begin cX3_begin 2 none ({ frames := 0, cells := 0, slots := 0, locals := 0 } : Room) D sz σ [.ref a0, iv (x1)] (.returned none) (w) 0 0 := by
  refine Mt.of (by decide +kernel) (Nat.le_of_ble_eq_true rfl) ?_
  intro Γ X hr hnl hini hnoh
  have X : Cx Γ cX3_begin "DayBoy$Era" _ := X
  have hL : ∀ i, i < 2 → i < nLc Γ := fun i q => by rw [hnl]; exact q
  show V Γ σ 0 0 0 [(0, .ref (a0)), (1, iv (x1))] []
  unfold f_X3_begin at h
  obtain ⟨ho0, h⟩ := cO_some h
  refine r_aload_n X 0 dX3_begin_0 rfl rfl ?_
  refine r_iload_n X 1 dX3_begin_1 rfl rfl ?_
  refine r_putI (kf := 1) X ho0.1 rfl (by decide) rfl rfl (Or.inl q175) dX3_begin_2 rfl ?_
  refine r_let h (fun σ1 eσ1 h => ?_)
  refine r_aload_n X 0 dX3_begin_5 rfl rfl ?_
  refine r_iconst X dX3_begin_6 ?_
  have hk2 : oc σ1 (a0) 2 := by rw [eσ1]; exact ho0
  refine r_putI (kf := 2) X hk2.1 rfl (by decide) rfl rfl (Or.inl q176) dX3_begin_7 rfl ?_
  refine r_let h (fun σ3 eσ3 h => ?_)
  refine r_aload_n X 0 dX3_begin_10 rfl rfl ?_
  have hk4 : oc σ3 (a0) 2 := by rw [eσ3]; exact hk2
  refine r_getP (kf := 0) X hk4.1 rfl (by decide) rfl (Or.inl q172) dX3_begin_11 h (fun b5 h => ?_)
  refine r_iconst X dX3_begin_14 ?_
  obtain ⟨ho6, h⟩ := cO_some h
  refine r_putI (kf := 3) X ho6.1 rfl (by decide) rfl rfl (Or.inr ⟨_, q158⟩) dX3_begin_15 rfl ?_
  refine r_let h (fun σ7 eσ7 h => ?_)
  cases h
  exact r_vret X hr dX3_begin_18
theorem hy_X2_last : yX2_last.cls ≠ "java/lang/invoke/MethodHandle" ∧ yX2_last.cls ≠ "java/lang/invoke/VarHandle" ∧ (parseMethodDescriptor yX2_last.desc).map (fun d => d.parameters.length) = some 0 := by decide +kernel
set_option maxHeartbeats 4000000 in
theorem w_X2_last (l : Launch) (D : DD) (sz : Nat) {σ : St} {a0 : Nat} {w : Nat} (h : f_X2_last σ a0 = some w) : Mt l yX2_last cX2_last 1 (some (FieldType.object "DayBoy$Era")) ({ frames := 0, cells := 0, slots := 0, locals := 0 } : Room) D sz σ [.ref a0] (.returned (some (.ref w))) (σ) 0 0 := by
  refine Mt.of (by decide +kernel) (Nat.le_of_ble_eq_true rfl) ?_
  intro Γ X hr hnl hini hnoh
  have X : Cx Γ cX2_last "DayBoy$Almanac" _ := X
  have hL : ∀ i, i < 1 → i < nLc Γ := fun i q => by rw [hnl]; exact q
  show V Γ σ 0 0 0 [(0, .ref (a0))] []
  unfold f_X2_last at h
  obtain ⟨ho0, h⟩ := cO_some h
  refine r_aload_n X 0 dX2_last_0 rfl rfl ?_
  refine r_getA (kf := 0) X ho0.1 rfl (by decide) (by decide) (Or.inl q189) dX2_last_1 ?_
  refine r_aload_n X 0 dX2_last_4 rfl rfl ?_
  refine r_getI (kf := 1) X ho0.1 rfl (by decide) rfl (Or.inl q190) dX2_last_5 ?_
  refine r_iconst X dX2_last_8 ?_
  refine r_isub X dX2_last_9 ?_
  refine r_aald X ho0.1 (ho0.2 0 (by decide)) rfl rfl (by decide) rfl (by decide) dX2_last_10 h (fun b1 h => ?_)
  cases h
  exact r_aret (q := some _) X hr dX2_last_11
theorem hy_X2_add : yX2_add.cls ≠ "java/lang/invoke/MethodHandle" ∧ yX2_add.cls ≠ "java/lang/invoke/VarHandle" ∧ (parseMethodDescriptor yX2_add.desc).map (fun d => d.parameters.length) = some 1 := by decide +kernel
set_option maxHeartbeats 4000000 in
theorem w_X2_add (l : Launch) (D : DD) (sz : Nat) {σ : St} {a0 : Nat} {x1 : Int} {w : Nat × St} (h : f_X2_add σ a0 x1 = some w) : Mt l yX2_add cX2_add 2 (some (FieldType.object "DayBoy$Era")) ({ frames := 1, cells := 0, slots := 0, locals := 13 } : Room) D sz σ [.ref a0, iv (x1)] (.returned (some (.ref w.1))) (w.2) 0 0 := by
  refine Mt.of (by decide +kernel) (Nat.le_of_ble_eq_true rfl) ?_
  intro Γ X hr hnl hini hnoh
  have X : Cx Γ cX2_add "DayBoy$Almanac" _ := X
  have hL : ∀ i, i < 2 → i < nLc Γ := fun i q => by rw [hnl]; exact q
  show V Γ σ 0 0 0 [(0, .ref (a0)), (1, iv (x1))] []
  unfold f_X2_add at h
  obtain ⟨ho0, h⟩ := cO_some h
  refine r_aload_n X 0 dX2_add_0 rfl rfl ?_
  refine r_getA (kf := 0) X ho0.1 rfl (by decide) (by decide) (Or.inl q189) dX2_add_1 ?_
  refine r_aload_n X 0 dX2_add_4 rfl rfl ?_
  refine r_getI (kf := 1) X ho0.1 rfl (by decide) rfl (Or.inl q190) dX2_add_5 ?_
  refine r_aald X ho0.1 (ho0.2 0 (by decide)) rfl rfl (by decide) rfl (by decide) dX2_add_8 h (fun b1 h => ?_)
  refine r_iload_n X 1 dX2_add_9 rfl rfl ?_
  obtain ⟨ho3, h⟩ := cO_some h
  obtain ⟨σ4, h2, h⟩ := bd_some h
  refine r_cV (Wd := 0) X (fun l D sz => w_X3_begin l D sz h2) ho3.1 rfl q539 q540 q538 q106 q541 hy_X3_begin rfl dX2_add_10 rfl rfl (Nat.le_of_ble_eq_true rfl) ⟨Nat.le_of_ble_eq_true rfl, Nat.le_of_ble_eq_true rfl⟩ ⟨Nat.le_of_ble_eq_true rfl, Nat.le_of_ble_eq_true rfl⟩ ?_
  refine r_aload_n X 0 dX2_add_13 rfl rfl ?_
  refine r_dup X dX2_add_14 rfl ?_
  obtain ⟨ho5, h⟩ := cO_some h
  refine r_getI (kf := 1) X ho5.1 rfl (by decide) rfl (Or.inl q190) dX2_add_15 ?_
  refine r_iconst X dX2_add_18 ?_
  refine r_iadd X dX2_add_19 ?_
  refine r_putI (kf := 1) X ho5.1 rfl (by decide) rfl rfl (Or.inl q190) dX2_add_20 rfl ?_
  refine r_let h (fun σ6 eσ6 h => ?_)
  refine r_aload_n X 0 dX2_add_23 rfl rfl ?_
  have hk8 : oc σ6 (a0) 1 := by rw [eσ6]; exact ho5
  obtain ⟨r9, h7, h⟩ := bd_some h
  refine r_cV (Wd := 0) X (fun l D sz => w_X2_last l D sz h7) hk8.1 rfl q543 q544 q542 q105 q545 hy_X2_last rfl dX2_add_24 rfl rfl (Nat.le_of_ble_eq_true rfl) ⟨Nat.le_of_ble_eq_true rfl, Nat.le_of_ble_eq_true rfl⟩ ⟨Nat.le_of_ble_eq_true rfl, Nat.le_of_ble_eq_true rfl⟩ ?_
  cases h
  exact r_aret (q := some _) X hr dX2_add_27
theorem hy_X4_add : yX4_add.cls ≠ "java/lang/invoke/MethodHandle" ∧ yX4_add.cls ≠ "java/lang/invoke/VarHandle" ∧ (parseMethodDescriptor yX4_add.desc).map (fun d => d.parameters.length) = some 2 := by decide +kernel
set_option maxHeartbeats 4000000 in
theorem w_X4_add (l : Launch) (D : DD) (sz : Nat) {σ : St} {a0 : Nat} {x1 : Int} {x2 : Int} {w : St} (h : f_X4_add σ a0 x1 x2 = some w) : Mt l yX4_add cX4_add 3 none ({ frames := 0, cells := 0, slots := 0, locals := 0 } : Room) D sz σ [.ref a0, iv (x1), iv (x2)] (.returned none) (w) 0 0 := by
  refine Mt.of (by decide +kernel) (Nat.le_of_ble_eq_true rfl) ?_
  intro Γ X hr hnl hini hnoh
  have X : Cx Γ cX4_add "DayBoy$Leaps" _ := X
  have hL : ∀ i, i < 3 → i < nLc Γ := fun i q => by rw [hnl]; exact q
  show V Γ σ 0 0 0 [(0, .ref (a0)), (1, iv (x1)), (2, iv (x2))] []
  unfold f_X4_add at h
  obtain ⟨ho0, h⟩ := cO_some h
  refine r_aload_n X 0 dX4_add_0 rfl rfl ?_
  refine r_getA (kf := 0) X ho0.1 rfl (by decide) (by decide) (Or.inl q154) dX4_add_1 ?_
  refine r_aload_n X 0 dX4_add_4 rfl rfl ?_
  refine r_getI (kf := 3) X ho0.1 rfl (by decide) rfl (Or.inl q157) dX4_add_5 ?_
  refine r_iload_n X 1 dX4_add_8 rfl rfl ?_
  refine r_iast X ho0.1 (ho0.2 0 (by decide)) rfl rfl rfl (by decide) dX4_add_9 h (fun h => ?_)
  refine r_let h (fun σ1 eσ1 h => ?_)
  refine r_aload_n X 0 dX4_add_10 rfl rfl ?_
  have hk2 : oc σ1 (a0) 3 := by rw [eσ1]; exact ho0
  refine r_getA (kf := 2) X hk2.1 rfl (by decide) (by decide) (Or.inl q156) dX4_add_11 ?_
  refine r_aload_n X 0 dX4_add_14 rfl rfl ?_
  refine r_getI (kf := 3) X hk2.1 rfl (by decide) rfl (Or.inl q157) dX4_add_15 ?_
  refine r_iload_n X 2 dX4_add_18 rfl rfl ?_
  refine r_zast X hk2.1 (hk2.2 2 (by decide)) rfl rfl rfl (by decide) dX4_add_19 h (fun h => ?_)
  refine r_let h (fun σ3 eσ3 h => ?_)
  refine r_aload_n X 0 dX4_add_20 rfl rfl ?_
  refine r_dup X dX4_add_21 rfl ?_
  have hk4 : oc σ3 (a0) 3 := by rw [eσ3]; exact hk2
  refine r_getI (kf := 3) X hk4.1 rfl (by decide) rfl (Or.inl q157) dX4_add_22 ?_
  refine r_iconst X dX4_add_25 ?_
  refine r_iadd X dX4_add_26 ?_
  refine r_putI (kf := 3) X hk4.1 rfl (by decide) rfl rfl (Or.inl q157) dX4_add_27 rfl ?_
  refine r_let h (fun σ5 eσ5 h => ?_)
  cases h
  exact r_vret X hr dX4_add_30
theorem hy_X4_count : yX4_count.cls ≠ "java/lang/invoke/MethodHandle" ∧ yX4_count.cls ≠ "java/lang/invoke/VarHandle" ∧ (parseMethodDescriptor yX4_count.desc).map (fun d => d.parameters.length) = some 0 := by decide +kernel
set_option maxHeartbeats 4000000 in
theorem w_X4_count (l : Launch) (D : DD) (sz : Nat) {σ : St} {a0 : Nat} {w : St} (h : f_X4_count σ a0 = some w) : Mt l yX4_count cX4_count 2 none ({ frames := 1, cells := 0, slots := 0, locals := 17 } : Room) D sz σ [.ref a0] (.returned none) (w) 0 0 := by
  refine Mt.of (by decide +kernel) (Nat.le_of_ble_eq_true rfl) ?_
  intro Γ X hr hnl hini hnoh
  have X : Cx Γ cX4_count "DayBoy$Leaps" _ := X
  have hL : ∀ i, i < 2 → i < nLc Γ := fun i q => by rw [hnl]; exact q
  show V Γ σ 0 0 0 [(0, .ref (a0))] []
  unfold f_X4_count at h
  obtain ⟨ho0, h⟩ := cO_some h
  refine r_iconst X dX4_count_0 ?_
  refine r_istore_n X dX4_count_1 rfl (hL 1 (by decide)) (lv' := [(1, iv (1)), (0, .ref (a0))]) rfl ?_
  have L2 : ∀ s : Int × St, lp (fun s => f_X4_count_b2 (a0) s.1 s.2) s = some w → V Γ (s.2) 0 0 2 [(0, .ref (a0)), (1, iv (s.1))] [] := by
    refine lp_rule (P := fun s : Int × St => V Γ (s.2) 0 0 2 [(0, .ref (a0)), (1, iv (s.1))] []) ?_
    intro s z1 h ihb1 ihe1
    obtain ⟨v1_1, σ_1⟩ := s
    have h : f_X4_count_b2 (a0) v1_1 σ_1 = some z1 := h
    unfold f_X4_count_b2 at h
    show V Γ σ_1 0 0 2 [(0, .ref (a0)), (1, iv (v1_1))] []
    have J35 : ∀ (v1_j35 : Int) (t0_j35 : Int) (t1_j35 : Int) (t2_j35 : Int) (σ_j35 : St), f_X4_count_j35 (a0) v1_j35 t0_j35 t1_j35 t2_j35 σ_j35 = some z1 → V Γ σ_j35 0 0 35 [(0, .ref (a0)), (1, iv (v1_j35))] [iv (t0_j35), iv (t1_j35), iv (t2_j35), va_rf (aR (σ_j35) (a0) 1)] := by
      intro v1_j35 t0_j35 t1_j35 t2_j35 σ_j35 h
      unfold f_X4_count_j35 at h
      refine r_iadd X dX4_count_35 ?_
      obtain ⟨ho1, h⟩ := cO_some h
      refine r_iast X ho1.1 (ho1.2 1 (by decide)) rfl rfl rfl (by decide) dX4_count_36 h (fun h => ?_)
      refine r_let h (fun σ2 eσ2 h => ?_)
      refine r_iinc X 1 dX4_count_37 rfl (hL 1 (by decide)) (lv' := [(1, iv ((v1_j35 + 1))), (0, .ref (a0))]) rfl ?_
      refine r_goto (tgt := 2) X dX4_count_40 (by decide) ?_
      exact V.sub [1, 0] rfl (ihb1 _ (Option.some.inj h).symm)
    refine r_iload_n X 1 dX4_count_2 rfl rfl ?_
    refine r_sipush X dX4_count_3 (by decide) ?_
    refine r_icmp_gt (tgt := 43) X dX4_count_6 (by decide) h (fun c3 h => ?_) (fun c3 h => ?_)
    · have h := ex_some h ihe1
      cases h
      exact r_vret X hr dX4_count_43
    · refine r_aload_n X 0 dX4_count_9 rfl rfl ?_
      obtain ⟨ho4, h⟩ := cO_some h
      refine r_getA (kf := 1) X ho4.1 rfl (by decide) (by decide) (Or.inl q155) dX4_count_10 ?_
      refine r_iload_n X 1 dX4_count_13 rfl rfl ?_
      refine r_iconst X dX4_count_14 ?_
      refine r_iadd X dX4_count_15 ?_
      refine r_aload_n X 0 dX4_count_16 rfl rfl ?_
      refine r_getA (kf := 1) X ho4.1 rfl (by decide) (by decide) (Or.inl q155) dX4_count_17 ?_
      refine r_iload_n X 1 dX4_count_20 rfl rfl ?_
      refine r_iald X ho4.1 (ho4.2 1 (by decide)) rfl rfl rfl (by decide) dX4_count_21 h (fun h => ?_)
      refine r_aload_n X 0 dX4_count_22 rfl rfl ?_
      refine r_iload_n X 1 dX4_count_23 rfl rfl ?_
      obtain ⟨r6, h5, h⟩ := bd_some h
      refine r_cV (Wd := 3) X (fun l D sz => w_X4_isLeap l D sz h5) ho4.1 rfl q559 q560 q558 q107 q561 hy_X4_isLeap rfl dX4_count_24 rfl rfl (by simp only [List.map_cons, List.map_nil, cat_rf, cat_iv, cat_jv, cat_ref, List.sum_cons, List.sum_nil]; decide) ⟨Nat.le_of_ble_eq_true rfl, Nat.le_of_ble_eq_true rfl⟩ ⟨Nat.le_of_ble_eq_true rfl, Nat.le_of_ble_eq_true rfl⟩ ?_
      refine r_if_eq (tgt := 34) X dX4_count_27 (by decide) h (fun c7 h => ?_) (fun c7 h => ?_)
      · refine r_iconst X dX4_count_34 ?_
        exact V.sub [0, 1] rfl (J35 (v1_1) (0) ((gI (σ_1) (a0) 1 (v1_1))) ((v1_1 + 1)) (σ_1) h)
      · refine r_iconst X dX4_count_30 ?_
        refine r_goto (tgt := 35) X dX4_count_31 (by decide) ?_
        exact V.sub [0, 1] rfl (J35 (v1_1) (1) ((gI (σ_1) (a0) 1 (v1_1))) ((v1_1 + 1)) (σ_1) h)
  exact V.sub [1, 0] rfl (L2 (1, σ) h)
theorem hy_X6_init : yX6_init.cls ≠ "java/lang/invoke/MethodHandle" ∧ yX6_init.cls ≠ "java/lang/invoke/VarHandle" ∧ (parseMethodDescriptor yX6_init.desc).map (fun d => d.parameters.length) = some 0 := by decide +kernel
set_option maxHeartbeats 4000000 in
theorem w_X6_init (l : Launch) (D : DD) (sz : Nat) {σ : St} {a0 : Nat} {w : St} (h : f_X6_init σ a0 = some w) : Mt l yX6_init cX6_init 1 none ({ frames := 1, cells := 46, slots := 402529, locals := 12 } : Room) D sz σ [.ref a0] (.returned none) (w) 46 402529 := by
  refine Mt.of (by decide +kernel) (Nat.le_of_ble_eq_true rfl) ?_
  intro Γ X hr hnl hini hnoh
  have X : Cx Γ cX6_init "DayBoyModel" _ := X
  have hL : ∀ i, i < 1 → i < nLc Γ := fun i q => by rw [hnl]; exact q
  have hini := hini rfl
  show V Γ σ 0 0 0 [(0, .ref (a0))] []
  unfold f_X6_init at h
  obtain ⟨hc0, h⟩ := ck_some h
  refine r_aload_n X 0 dX6_init_0 rfl rfl ?_
  refine r_objInit X q1238 q133 q134 dX6_init_1 (by decide) (Nat.le_of_ble_eq_true rfl) ?_
  refine r_aload_n X 0 dX6_init_4 rfl rfl ?_
  refine r_sipush X dX6_init_5 (by decide) ?_
  refine r_newA (kf := 1) (t := .int) (atype := .int) X hini hc0 rfl (by decide) (by decide) rfl rfl (by decide) (fun U cA h => h) rfl q170 q1242 rfl rfl rfl rfl (by decide) dX6_init_8 dX6_init_10 (by decide) (by decide) ?_
  refine r_let h (fun σ1 eσ1 h => ?_)
  refine r_aload_n X 0 dX6_init_13 rfl rfl ?_
  refine r_bipush X dX6_init_14 (by decide) ?_
  have hk2 : cL σ1 (a0) = some 5 := by rw [eσ1]; exact hc0
  refine r_newA (kf := 5) (t := .int) (atype := .int) X hini hk2 rfl (by decide) (by decide) rfl rfl (by decide) (fun U cA h => h) rfl q170 q1246 rfl rfl rfl rfl (by decide) dX6_init_16 dX6_init_18 (by decide) (by decide) ?_
  refine r_let h (fun σ3 eσ3 h => ?_)
  refine r_aload_n X 0 dX6_init_21 rfl rfl ?_
  refine r_bipush X dX6_init_22 (by decide) ?_
  have hk4 : cL σ3 (a0) = some 5 := by rw [eσ3]; exact hk2
  refine r_newA (kf := 6) (t := .int) (atype := .int) X hini hk4 rfl (by decide) (by decide) rfl rfl (by decide) (fun U cA h => h) rfl q170 q1247 rfl rfl rfl rfl (by decide) dX6_init_24 dX6_init_26 (by decide) (by decide) ?_
  refine r_let h (fun σ5 eσ5 h => ?_)
  refine r_aload_n X 0 dX6_init_29 rfl rfl ?_
  refine r_bipush X dX6_init_30 (by decide) ?_
  have hk6 : cL σ5 (a0) = some 5 := by rw [eσ5]; exact hk4
  refine r_newA (kf := 7) (t := .int) (atype := .int) X hini hk6 rfl (by decide) (by decide) rfl rfl (by decide) (fun U cA h => h) rfl q170 q1248 rfl rfl rfl rfl (by decide) dX6_init_32 dX6_init_34 (by decide) (by decide) ?_
  refine r_let h (fun σ7 eσ7 h => ?_)
  refine r_aload_n X 0 dX6_init_37 rfl rfl ?_
  refine r_sipush X dX6_init_38 (by decide) ?_
  have hk8 : cL σ7 (a0) = some 5 := by rw [eσ7]; exact hk6
  refine r_newA (kf := 8) (t := .int) (atype := .int) X hini hk8 rfl (by decide) (by decide) rfl rfl (by decide) (fun U cA h => h) rfl q170 q1249 rfl rfl rfl rfl (by decide) dX6_init_41 dX6_init_43 (by decide) (by decide) ?_
  refine r_let h (fun σ9 eσ9 h => ?_)
  refine r_aload_n X 0 dX6_init_46 rfl rfl ?_
  refine r_sipush X dX6_init_47 (by decide) ?_
  have hk10 : cL σ9 (a0) = some 5 := by rw [eσ9]; exact hk8
  refine r_newA (kf := 9) (t := .boolean) (atype := .boolean) X hini hk10 rfl (by decide) (by decide) rfl rfl (by decide) (fun U cA h => h) rfl q171 q1250 rfl rfl rfl rfl (by decide) dX6_init_50 dX6_init_52 (by decide) (by decide) ?_
  refine r_let h (fun σ11 eσ11 h => ?_)
  refine r_aload_n X 0 dX6_init_55 rfl rfl ?_
  refine r_bipush X dX6_init_56 (by decide) ?_
  have hk12 : cL σ11 (a0) = some 5 := by rw [eσ11]; exact hk10
  refine r_newA (kf := 10) (t := .int) (atype := .int) X hini hk12 rfl (by decide) (by decide) rfl rfl (by decide) (fun U cA h => h) rfl q170 q1251 rfl rfl rfl rfl (by decide) dX6_init_58 dX6_init_60 (by decide) (by decide) ?_
  refine r_let h (fun σ13 eσ13 h => ?_)
  refine r_aload_n X 0 dX6_init_63 rfl rfl ?_
  refine r_bipush X dX6_init_64 (by decide) ?_
  have hk14 : cL σ13 (a0) = some 5 := by rw [eσ13]; exact hk12
  refine r_newA (kf := 11) (t := .int) (atype := .int) X hini hk14 rfl (by decide) (by decide) rfl rfl (by decide) (fun U cA h => h) rfl q170 q1252 rfl rfl rfl rfl (by decide) dX6_init_66 dX6_init_68 (by decide) (by decide) ?_
  refine r_let h (fun σ15 eσ15 h => ?_)
  refine r_aload_n X 0 dX6_init_71 rfl rfl ?_
  refine r_bipush X dX6_init_72 (by decide) ?_
  have hk16 : cL σ15 (a0) = some 5 := by rw [eσ15]; exact hk14
  refine r_newA (kf := 12) (t := .int) (atype := .int) X hini hk16 rfl (by decide) (by decide) rfl rfl (by decide) (fun U cA h => h) rfl q170 q1253 rfl rfl rfl rfl (by decide) dX6_init_74 dX6_init_76 (by decide) (by decide) ?_
  refine r_let h (fun σ17 eσ17 h => ?_)
  refine r_aload_n X 0 dX6_init_79 rfl rfl ?_
  refine r_ldc (z := 280028) X q1239 dX6_init_80 rfl ?_
  have hk18 : cL σ17 (a0) = some 5 := by rw [eσ17]; exact hk16
  refine r_newA (kf := 13) (t := .int) (atype := .int) X hini hk18 rfl (by decide) (by decide) rfl rfl (by decide) (fun U cA h => h) rfl q170 q1254 rfl rfl rfl rfl (by decide) dX6_init_82 dX6_init_84 (by decide) (by decide) ?_
  refine r_let h (fun σ19 eσ19 h => ?_)
  refine r_aload_n X 0 dX6_init_87 rfl rfl ?_
  refine r_bipush X dX6_init_88 (by decide) ?_
  have hk20 : cL σ19 (a0) = some 5 := by rw [eσ19]; exact hk18
  refine r_newA (kf := 15) (t := .int) (atype := .int) X hini hk20 rfl (by decide) (by decide) rfl rfl (by decide) (fun U cA h => h) rfl q170 q1256 rfl rfl rfl rfl (by decide) dX6_init_90 dX6_init_92 (by decide) (by decide) ?_
  refine r_let h (fun σ21 eσ21 h => ?_)
  refine r_aload_n X 0 dX6_init_95 rfl rfl ?_
  refine r_bipush X dX6_init_96 (by decide) ?_
  have hk22 : cL σ21 (a0) = some 5 := by rw [eσ21]; exact hk20
  refine r_newA (kf := 16) (t := .int) (atype := .int) X hini hk22 rfl (by decide) (by decide) rfl rfl (by decide) (fun U cA h => h) rfl q170 q1257 rfl rfl rfl rfl (by decide) dX6_init_98 dX6_init_100 (by decide) (by decide) ?_
  refine r_let h (fun σ23 eσ23 h => ?_)
  refine r_aload_n X 0 dX6_init_103 rfl rfl ?_
  refine r_bipush X dX6_init_104 (by decide) ?_
  have hk24 : cL σ23 (a0) = some 5 := by rw [eσ23]; exact hk22
  refine r_newA (kf := 17) (t := .int) (atype := .int) X hini hk24 rfl (by decide) (by decide) rfl rfl (by decide) (fun U cA h => h) rfl q170 q1258 rfl rfl rfl rfl (by decide) dX6_init_106 dX6_init_108 (by decide) (by decide) ?_
  refine r_let h (fun σ25 eσ25 h => ?_)
  refine r_aload_n X 0 dX6_init_111 rfl rfl ?_
  refine r_bipush X dX6_init_112 (by decide) ?_
  have hk26 : cL σ25 (a0) = some 5 := by rw [eσ25]; exact hk24
  refine r_newA (kf := 18) (t := .int) (atype := .int) X hini hk26 rfl (by decide) (by decide) rfl rfl (by decide) (fun U cA h => h) rfl q170 q1259 rfl rfl rfl rfl (by decide) dX6_init_114 dX6_init_116 (by decide) (by decide) ?_
  refine r_let h (fun σ27 eσ27 h => ?_)
  refine r_aload_n X 0 dX6_init_119 rfl rfl ?_
  refine r_bipush X dX6_init_120 (by decide) ?_
  have hk28 : cL σ27 (a0) = some 5 := by rw [eσ27]; exact hk26
  refine r_newA (kf := 19) (t := .int) (atype := .int) X hini hk28 rfl (by decide) (by decide) rfl rfl (by decide) (fun U cA h => h) rfl q170 q1260 rfl rfl rfl rfl (by decide) dX6_init_122 dX6_init_124 (by decide) (by decide) ?_
  refine r_let h (fun σ29 eσ29 h => ?_)
  refine r_aload_n X 0 dX6_init_127 rfl rfl ?_
  refine r_bipush X dX6_init_128 (by decide) ?_
  have hk30 : cL σ29 (a0) = some 5 := by rw [eσ29]; exact hk28
  refine r_newA (kf := 20) (t := .int) (atype := .int) X hini hk30 rfl (by decide) (by decide) rfl rfl (by decide) (fun U cA h => h) rfl q170 q1261 rfl rfl rfl rfl (by decide) dX6_init_130 dX6_init_132 (by decide) (by decide) ?_
  refine r_let h (fun σ31 eσ31 h => ?_)
  refine r_aload_n X 0 dX6_init_135 rfl rfl ?_
  refine r_bipush X dX6_init_136 (by decide) ?_
  have hk32 : cL σ31 (a0) = some 5 := by rw [eσ31]; exact hk30
  refine r_newA (kf := 21) (t := .int) (atype := .int) X hini hk32 rfl (by decide) (by decide) rfl rfl (by decide) (fun U cA h => h) rfl q170 q1262 rfl rfl rfl rfl (by decide) dX6_init_138 dX6_init_140 (by decide) (by decide) ?_
  refine r_let h (fun σ33 eσ33 h => ?_)
  refine r_aload_n X 0 dX6_init_143 rfl rfl ?_
  refine r_bipush X dX6_init_144 (by decide) ?_
  have hk34 : cL σ33 (a0) = some 5 := by rw [eσ33]; exact hk32
  refine r_newA (kf := 22) (t := .int) (atype := .int) X hini hk34 rfl (by decide) (by decide) rfl rfl (by decide) (fun U cA h => h) rfl q170 q1263 rfl rfl rfl rfl (by decide) dX6_init_146 dX6_init_148 (by decide) (by decide) ?_
  refine r_let h (fun σ35 eσ35 h => ?_)
  refine r_aload_n X 0 dX6_init_151 rfl rfl ?_
  refine r_bipush X dX6_init_152 (by decide) ?_
  have hk36 : cL σ35 (a0) = some 5 := by rw [eσ35]; exact hk34
  refine r_newA (kf := 23) (t := .int) (atype := .int) X hini hk36 rfl (by decide) (by decide) rfl rfl (by decide) (fun U cA h => h) rfl q170 q1264 rfl rfl rfl rfl (by decide) dX6_init_154 dX6_init_156 (by decide) (by decide) ?_
  refine r_let h (fun σ37 eσ37 h => ?_)
  refine r_aload_n X 0 dX6_init_159 rfl rfl ?_
  refine r_bipush X dX6_init_160 (by decide) ?_
  have hk38 : cL σ37 (a0) = some 5 := by rw [eσ37]; exact hk36
  refine r_newA (kf := 24) (t := .int) (atype := .int) X hini hk38 rfl (by decide) (by decide) rfl rfl (by decide) (fun U cA h => h) rfl q170 q1265 rfl rfl rfl rfl (by decide) dX6_init_162 dX6_init_164 (by decide) (by decide) ?_
  refine r_let h (fun σ39 eσ39 h => ?_)
  refine r_aload_n X 0 dX6_init_167 rfl rfl ?_
  refine r_bipush X dX6_init_168 (by decide) ?_
  have hk40 : cL σ39 (a0) = some 5 := by rw [eσ39]; exact hk38
  refine r_newA (kf := 25) (t := .int) (atype := .int) X hini hk40 rfl (by decide) (by decide) rfl rfl (by decide) (fun U cA h => h) rfl q170 q1266 rfl rfl rfl rfl (by decide) dX6_init_170 dX6_init_172 (by decide) (by decide) ?_
  refine r_let h (fun σ41 eσ41 h => ?_)
  refine r_aload_n X 0 dX6_init_175 rfl rfl ?_
  refine r_bipush X dX6_init_176 (by decide) ?_
  have hk42 : cL σ41 (a0) = some 5 := by rw [eσ41]; exact hk40
  refine r_newA (kf := 26) (t := .int) (atype := .int) X hini hk42 rfl (by decide) (by decide) rfl rfl (by decide) (fun U cA h => h) rfl q170 q1267 rfl rfl rfl rfl (by decide) dX6_init_178 dX6_init_180 (by decide) (by decide) ?_
  refine r_let h (fun σ43 eσ43 h => ?_)
  refine r_aload_n X 0 dX6_init_183 rfl rfl ?_
  refine r_bipush X dX6_init_184 (by decide) ?_
  have hk44 : cL σ43 (a0) = some 5 := by rw [eσ43]; exact hk42
  refine r_newA (kf := 27) (t := .int) (atype := .int) X hini hk44 rfl (by decide) (by decide) rfl rfl (by decide) (fun U cA h => h) rfl q170 q1268 rfl rfl rfl rfl (by decide) dX6_init_186 dX6_init_188 (by decide) (by decide) ?_
  refine r_let h (fun σ45 eσ45 h => ?_)
  refine r_aload_n X 0 dX6_init_191 rfl rfl ?_
  refine r_ldc (z := 90009) X q1240 dX6_init_192 rfl ?_
  have hk46 : cL σ45 (a0) = some 5 := by rw [eσ45]; exact hk44
  refine r_newA (kf := 30) (t := .long) (atype := .long) X hini hk46 rfl (by decide) (by decide) rfl rfl (by decide) (fun U cA h => h) rfl q297 q1271 rfl rfl rfl rfl (by decide) dX6_init_194 dX6_init_196 (by decide) (by decide) ?_
  refine r_let h (fun σ47 eσ47 h => ?_)
  refine r_aload_n X 0 dX6_init_199 rfl rfl ?_
  refine r_bipush X dX6_init_200 (by decide) ?_
  have hk48 : cL σ47 (a0) = some 5 := by rw [eσ47]; exact hk46
  refine r_newA (kf := 31) (t := .long) (atype := .long) X hini hk48 rfl (by decide) (by decide) rfl rfl (by decide) (fun U cA h => h) rfl q297 q1272 rfl rfl rfl rfl (by decide) dX6_init_202 dX6_init_204 (by decide) (by decide) ?_
  refine r_let h (fun σ49 eσ49 h => ?_)
  refine r_aload_n X 0 dX6_init_207 rfl rfl ?_
  refine r_sipush X dX6_init_208 (by decide) ?_
  have hk50 : cL σ49 (a0) = some 5 := by rw [eσ49]; exact hk48
  refine r_newA (kf := 32) (t := .int) (atype := .int) X hini hk50 rfl (by decide) (by decide) rfl rfl (by decide) (fun U cA h => h) rfl q170 q1273 rfl rfl rfl rfl (by decide) dX6_init_211 dX6_init_213 (by decide) (by decide) ?_
  refine r_let h (fun σ51 eσ51 h => ?_)
  refine r_aload_n X 0 dX6_init_216 rfl rfl ?_
  refine r_sipush X dX6_init_217 (by decide) ?_
  have hk52 : cL σ51 (a0) = some 5 := by rw [eσ51]; exact hk50
  refine r_newA (kf := 33) (t := .boolean) (atype := .boolean) X hini hk52 rfl (by decide) (by decide) rfl rfl (by decide) (fun U cA h => h) rfl q171 q1274 rfl rfl rfl rfl (by decide) dX6_init_220 dX6_init_222 (by decide) (by decide) ?_
  refine r_let h (fun σ53 eσ53 h => ?_)
  refine r_aload_n X 0 dX6_init_225 rfl rfl ?_
  refine r_sipush X dX6_init_226 (by decide) ?_
  have hk54 : cL σ53 (a0) = some 5 := by rw [eσ53]; exact hk52
  refine r_newA (kf := 36) (t := .int) (atype := .int) X hini hk54 rfl (by decide) (by decide) rfl rfl (by decide) (fun U cA h => h) rfl q170 q1277 rfl rfl rfl rfl (by decide) dX6_init_229 dX6_init_231 (by decide) (by decide) ?_
  refine r_let h (fun σ55 eσ55 h => ?_)
  refine r_aload_n X 0 dX6_init_234 rfl rfl ?_
  refine r_bipush X dX6_init_235 (by decide) ?_
  have hk56 : cL σ55 (a0) = some 5 := by rw [eσ55]; exact hk54
  refine r_newA (kf := 37) (t := .int) (atype := .int) X hini hk56 rfl (by decide) (by decide) rfl rfl (by decide) (fun U cA h => h) rfl q170 q1278 rfl rfl rfl rfl (by decide) dX6_init_237 dX6_init_239 (by decide) (by decide) ?_
  refine r_let h (fun σ57 eσ57 h => ?_)
  refine r_aload_n X 0 dX6_init_242 rfl rfl ?_
  refine r_bipush X dX6_init_243 (by decide) ?_
  have hk58 : cL σ57 (a0) = some 5 := by rw [eσ57]; exact hk56
  refine r_newA (kf := 42) (t := .int) (atype := .int) X hini hk58 rfl (by decide) (by decide) rfl rfl (by decide) (fun U cA h => h) rfl q170 q1283 rfl rfl rfl rfl (by decide) dX6_init_245 dX6_init_247 (by decide) (by decide) ?_
  refine r_let h (fun σ59 eσ59 h => ?_)
  refine r_aload_n X 0 dX6_init_250 rfl rfl ?_
  refine r_bipush X dX6_init_251 (by decide) ?_
  have hk60 : cL σ59 (a0) = some 5 := by rw [eσ59]; exact hk58
  refine r_newA (kf := 43) (t := .int) (atype := .int) X hini hk60 rfl (by decide) (by decide) rfl rfl (by decide) (fun U cA h => h) rfl q170 q1284 rfl rfl rfl rfl (by decide) dX6_init_253 dX6_init_255 (by decide) (by decide) ?_
  refine r_let h (fun σ61 eσ61 h => ?_)
  refine r_aload_n X 0 dX6_init_258 rfl rfl ?_
  refine r_bipush X dX6_init_259 (by decide) ?_
  have hk62 : cL σ61 (a0) = some 5 := by rw [eσ61]; exact hk60
  refine r_newA (kf := 44) (t := .int) (atype := .int) X hini hk62 rfl (by decide) (by decide) rfl rfl (by decide) (fun U cA h => h) rfl q170 q1285 rfl rfl rfl rfl (by decide) dX6_init_261 dX6_init_263 (by decide) (by decide) ?_
  refine r_let h (fun σ63 eσ63 h => ?_)
  refine r_aload_n X 0 dX6_init_266 rfl rfl ?_
  refine r_bipush X dX6_init_267 (by decide) ?_
  have hk64 : cL σ63 (a0) = some 5 := by rw [eσ63]; exact hk62
  refine r_newA (kf := 45) (t := .int) (atype := .int) X hini hk64 rfl (by decide) (by decide) rfl rfl (by decide) (fun U cA h => h) rfl q170 q1286 rfl rfl rfl rfl (by decide) dX6_init_269 dX6_init_271 (by decide) (by decide) ?_
  refine r_let h (fun σ65 eσ65 h => ?_)
  refine r_aload_n X 0 dX6_init_274 rfl rfl ?_
  refine r_bipush X dX6_init_275 (by decide) ?_
  have hk66 : cL σ65 (a0) = some 5 := by rw [eσ65]; exact hk64
  refine r_newA (kf := 46) (t := .int) (atype := .int) X hini hk66 rfl (by decide) (by decide) rfl rfl (by decide) (fun U cA h => h) rfl q170 q1287 rfl rfl rfl rfl (by decide) dX6_init_277 dX6_init_279 (by decide) (by decide) ?_
  refine r_let h (fun σ67 eσ67 h => ?_)
  refine r_aload_n X 0 dX6_init_282 rfl rfl ?_
  refine r_bipush X dX6_init_283 (by decide) ?_
  have hk68 : cL σ67 (a0) = some 5 := by rw [eσ67]; exact hk66
  refine r_newA (kf := 47) (t := .int) (atype := .int) X hini hk68 rfl (by decide) (by decide) rfl rfl (by decide) (fun U cA h => h) rfl q170 q1288 rfl rfl rfl rfl (by decide) dX6_init_285 dX6_init_287 (by decide) (by decide) ?_
  refine r_let h (fun σ69 eσ69 h => ?_)
  refine r_aload_n X 0 dX6_init_290 rfl rfl ?_
  refine r_bipush X dX6_init_291 (by decide) ?_
  have hk70 : cL σ69 (a0) = some 5 := by rw [eσ69]; exact hk68
  refine r_newA (kf := 48) (t := .int) (atype := .int) X hini hk70 rfl (by decide) (by decide) rfl rfl (by decide) (fun U cA h => h) rfl q170 q1289 rfl rfl rfl rfl (by decide) dX6_init_293 dX6_init_295 (by decide) (by decide) ?_
  refine r_let h (fun σ71 eσ71 h => ?_)
  refine r_aload_n X 0 dX6_init_298 rfl rfl ?_
  refine r_bipush X dX6_init_299 (by decide) ?_
  have hk72 : cL σ71 (a0) = some 5 := by rw [eσ71]; exact hk70
  refine r_newA (kf := 50) (t := .int) (atype := .int) X hini hk72 rfl (by decide) (by decide) rfl rfl (by decide) (fun U cA h => h) rfl q170 q1291 rfl rfl rfl rfl (by decide) dX6_init_301 dX6_init_303 (by decide) (by decide) ?_
  refine r_let h (fun σ73 eσ73 h => ?_)
  refine r_aload_n X 0 dX6_init_306 rfl rfl ?_
  refine r_bipush X dX6_init_307 (by decide) ?_
  have hk74 : cL σ73 (a0) = some 5 := by rw [eσ73]; exact hk72
  refine r_newA (kf := 51) (t := .int) (atype := .int) X hini hk74 rfl (by decide) (by decide) rfl rfl (by decide) (fun U cA h => h) rfl q170 q1292 rfl rfl rfl rfl (by decide) dX6_init_309 dX6_init_311 (by decide) (by decide) ?_
  refine r_let h (fun σ75 eσ75 h => ?_)
  refine r_aload_n X 0 dX6_init_314 rfl rfl ?_
  refine r_bipush X dX6_init_315 (by decide) ?_
  have hk76 : cL σ75 (a0) = some 5 := by rw [eσ75]; exact hk74
  refine r_newA (kf := 52) (t := .int) (atype := .int) X hini hk76 rfl (by decide) (by decide) rfl rfl (by decide) (fun U cA h => h) rfl q170 q1293 rfl rfl rfl rfl (by decide) dX6_init_317 dX6_init_319 (by decide) (by decide) ?_
  refine r_let h (fun σ77 eσ77 h => ?_)
  refine r_aload_n X 0 dX6_init_322 rfl rfl ?_
  refine r_bipush X dX6_init_323 (by decide) ?_
  have hk78 : cL σ77 (a0) = some 5 := by rw [eσ77]; exact hk76
  refine r_newA (kf := 53) (t := .int) (atype := .int) X hini hk78 rfl (by decide) (by decide) rfl rfl (by decide) (fun U cA h => h) rfl q170 q1294 rfl rfl rfl rfl (by decide) dX6_init_325 dX6_init_327 (by decide) (by decide) ?_
  refine r_let h (fun σ79 eσ79 h => ?_)
  refine r_aload_n X 0 dX6_init_330 rfl rfl ?_
  refine r_bipush X dX6_init_331 (by decide) ?_
  have hk80 : cL σ79 (a0) = some 5 := by rw [eσ79]; exact hk78
  refine r_newA (kf := 55) (t := .int) (atype := .int) X hini hk80 rfl (by decide) (by decide) rfl rfl (by decide) (fun U cA h => h) rfl q170 q1296 rfl rfl rfl rfl (by decide) dX6_init_333 dX6_init_335 (by decide) (by decide) ?_
  refine r_let h (fun σ81 eσ81 h => ?_)
  refine r_aload_n X 0 dX6_init_338 rfl rfl ?_
  refine r_iconst X dX6_init_339 ?_
  have hk82 : cL σ81 (a0) = some 5 := by rw [eσ81]; exact hk80
  refine r_putI (kf := 56) X hk82 rfl (by decide) rfl rfl (Or.inl q1297) dX6_init_340 rfl ?_
  refine r_let h (fun σ83 eσ83 h => ?_)
  refine r_aload_n X 0 dX6_init_343 rfl rfl ?_
  refine r_bipush X dX6_init_344 (by decide) ?_
  have hk84 : cL σ83 (a0) = some 5 := by rw [eσ83]; exact hk82
  refine r_newA (kf := 61) (t := .int) (atype := .int) X hini hk84 rfl (by decide) (by decide) rfl rfl (by decide) (fun U cA h => h) rfl q170 q1302 rfl rfl rfl rfl (by decide) dX6_init_346 dX6_init_348 (by decide) (by decide) ?_
  refine r_let h (fun σ85 eσ85 h => ?_)
  refine r_aload_n X 0 dX6_init_351 rfl rfl ?_
  refine r_bipush X dX6_init_352 (by decide) ?_
  have hk86 : cL σ85 (a0) = some 5 := by rw [eσ85]; exact hk84
  refine r_newA (kf := 62) (t := .int) (atype := .int) X hini hk86 rfl (by decide) (by decide) rfl rfl (by decide) (fun U cA h => h) rfl q170 q1303 rfl rfl rfl rfl (by decide) dX6_init_354 dX6_init_356 (by decide) (by decide) ?_
  refine r_let h (fun σ87 eσ87 h => ?_)
  refine r_aload_n X 0 dX6_init_359 rfl rfl ?_
  refine r_sipush X dX6_init_360 (by decide) ?_
  have hk88 : cL σ87 (a0) = some 5 := by rw [eσ87]; exact hk86
  refine r_newA (kf := 66) (t := .int) (atype := .int) X hini hk88 rfl (by decide) (by decide) rfl rfl (by decide) (fun U cA h => h) rfl q170 q1307 rfl rfl rfl rfl (by decide) dX6_init_363 dX6_init_365 (by decide) (by decide) ?_
  refine r_let h (fun σ89 eσ89 h => ?_)
  refine r_aload_n X 0 dX6_init_368 rfl rfl ?_
  refine r_sipush X dX6_init_369 (by decide) ?_
  have hk90 : cL σ89 (a0) = some 5 := by rw [eσ89]; exact hk88
  refine r_newA (kf := 67) (t := .int) (atype := .int) X hini hk90 rfl (by decide) (by decide) rfl rfl (by decide) (fun U cA h => h) rfl q170 q1308 rfl rfl rfl rfl (by decide) dX6_init_372 dX6_init_374 (by decide) (by decide) ?_
  refine r_let h (fun σ91 eσ91 h => ?_)
  refine r_aload_n X 0 dX6_init_377 rfl rfl ?_
  refine r_sipush X dX6_init_378 (by decide) ?_
  have hk92 : cL σ91 (a0) = some 5 := by rw [eσ91]; exact hk90
  refine r_newA (kf := 68) (t := .int) (atype := .int) X hini hk92 rfl (by decide) (by decide) rfl rfl (by decide) (fun U cA h => h) rfl q170 q1309 rfl rfl rfl rfl (by decide) dX6_init_381 dX6_init_383 (by decide) (by decide) ?_
  refine r_let h (fun σ93 eσ93 h => ?_)
  cases h
  exact r_vret X hr dX6_init_386
theorem hy_X6_thrown : yX6_thrown.cls ≠ "java/lang/invoke/MethodHandle" ∧ yX6_thrown.cls ≠ "java/lang/invoke/VarHandle" ∧ (parseMethodDescriptor yX6_thrown.desc).map (fun d => d.parameters.length) = some 0 := by decide +kernel
set_option maxHeartbeats 4000000 in
theorem w_X6_thrown (l : Launch) (D : DD) (sz : Nat) {σ : St} {a0 : Nat} {w : Int} (h : f_X6_thrown σ a0 = some w) : Mt l yX6_thrown cX6_thrown 1 (some FieldType.int) ({ frames := 0, cells := 0, slots := 0, locals := 0 } : Room) D sz σ [.ref a0] (.returned (some (iv w))) (σ) 0 0 := by
  refine Mt.of (by decide +kernel) (Nat.le_of_ble_eq_true rfl) ?_
  intro Γ X hr hnl hini hnoh
  have X : Cx Γ cX6_thrown "DayBoyModel" _ := X
  have hL : ∀ i, i < 1 → i < nLc Γ := fun i q => by rw [hnl]; exact q
  show V Γ σ 0 0 0 [(0, .ref (a0))] []
  unfold f_X6_thrown at h
  obtain ⟨ho0, h⟩ := cO_some h
  refine r_aload_n X 0 dX6_thrown_0 rfl rfl ?_
  refine r_getI (kf := 0) X ho0.1 rfl (by decide) rfl (Or.inl q1241) dX6_thrown_1 ?_
  cases h
  exact r_iret X hr dX6_thrown_4
theorem hy_X6_byteOf : yX6_byteOf.cls ≠ "java/lang/invoke/MethodHandle" ∧ yX6_byteOf.cls ≠ "java/lang/invoke/VarHandle" ∧ (parseMethodDescriptor yX6_byteOf.desc).map (fun d => d.parameters.length) = some 6 := by decide +kernel
set_option maxHeartbeats 4000000 in
theorem w_X6_byteOf (l : Launch) (D : DD) (sz : Nat) {σ : St} {x0 : Int} {x1 : Int} {x2 : Int} {x3 : Int} {x4 : Int} {x5 : Int} {w : Int} (h : f_X6_byteOf σ x0 x1 x2 x3 x4 x5 = some w) : Mt l yX6_byteOf cX6_byteOf 7 (some FieldType.int) ({ frames := 0, cells := 0, slots := 0, locals := 0 } : Room) D sz σ [iv (x0), iv (x1), iv (x2), iv (x3), iv (x4), iv (x5)] (.returned (some (iv w))) (σ) 0 0 := by
  refine Mt.of (by decide +kernel) (Nat.le_of_ble_eq_true rfl) ?_
  intro Γ X hr hnl hini hnoh
  have X : Cx Γ cX6_byteOf "DayBoyModel" _ := X
  have hL : ∀ i, i < 7 → i < nLc Γ := fun i q => by rw [hnl]; exact q
  show V Γ σ 0 0 0 [(0, iv (x0)), (1, iv (x1)), (2, iv (x2)), (3, iv (x3)), (4, iv (x4)), (5, iv (x5))] []
  unfold f_X6_byteOf at h
  have J45 : ∀ (t0_j45 : Int), f_X6_byteOf_j45 (σ) (x5) t0_j45 = some w → V Γ σ 0 0 45 [(5, iv (x5))] [iv (t0_j45)] := by
    intro t0_j45 h
    unfold f_X6_byteOf_j45 at h
    refine r_istore X dX6_byteOf_45 (hL 6 (by decide)) (lv' := [(6, iv (t0_j45)), (5, iv (x5))]) rfl ?_
    refine r_iload X 0 dX6_byteOf_47 rfl ?_
    refine r_bipush X dX6_byteOf_49 (by decide) ?_
    refine r_bipush X dX6_byteOf_51 (by decide) ?_
    refine r_iload X 1 dX6_byteOf_53 rfl ?_
    refine r_iconst X dX6_byteOf_55 ?_
    obtain ⟨c1, h⟩ := ck_some h
    refine r_irem X dX6_byteOf_56 c1 (by decide) (by decide) ?_
    refine r_imul X dX6_byteOf_57 ?_
    refine r_isub X dX6_byteOf_58 ?_
    refine r_ishr X dX6_byteOf_59 ?_
    refine r_sipush X dX6_byteOf_60 (by decide) ?_
    refine r_iand X dX6_byteOf_63 ?_
    cases h
    exact r_iret X hr dX6_byteOf_64
  refine r_iload X 5 dX6_byteOf_0 rfl ?_
  refine r_iconst X dX6_byteOf_2 ?_
  refine r_icmp_ge (tgt := 10) X dX6_byteOf_3 (by decide) h (fun c2 h => ?_) (fun c2 h => ?_)
  · refine r_iload_n X 0 dX6_byteOf_6 rfl rfl ?_
    refine r_goto (tgt := 45) X dX6_byteOf_7 (by decide) ?_
    exact V.sub [5] rfl (J45 (x0) h)
  · refine r_iload X 5 dX6_byteOf_10 rfl ?_
    refine r_bipush X dX6_byteOf_12 (by decide) ?_
    refine r_icmp_ge (tgt := 21) X dX6_byteOf_14 (by decide) h (fun c3 h => ?_) (fun c3 h => ?_)
    · refine r_iload_n X 1 dX6_byteOf_17 rfl rfl ?_
      refine r_goto (tgt := 45) X dX6_byteOf_18 (by decide) ?_
      exact V.sub [5] rfl (J45 (x1) h)
    · refine r_iload X 5 dX6_byteOf_21 rfl ?_
      refine r_bipush X dX6_byteOf_23 (by decide) ?_
      refine r_icmp_ge (tgt := 32) X dX6_byteOf_25 (by decide) h (fun c4 h => ?_) (fun c4 h => ?_)
      · refine r_iload_n X 2 dX6_byteOf_28 rfl rfl ?_
        refine r_goto (tgt := 45) X dX6_byteOf_29 (by decide) ?_
        exact V.sub [5] rfl (J45 (x2) h)
      · refine r_iload X 5 dX6_byteOf_32 rfl ?_
        refine r_bipush X dX6_byteOf_34 (by decide) ?_
        refine r_icmp_ge (tgt := 43) X dX6_byteOf_36 (by decide) h (fun c5 h => ?_) (fun c5 h => ?_)
        · refine r_iload_n X 3 dX6_byteOf_39 rfl rfl ?_
          refine r_goto (tgt := 45) X dX6_byteOf_40 (by decide) ?_
          exact V.sub [5] rfl (J45 (x3) h)
        · refine r_iload X 4 dX6_byteOf_43 rfl ?_
          exact V.sub [5] rfl (J45 (x4) h)
theorem hy_X6_feed : yX6_feed.cls ≠ "java/lang/invoke/MethodHandle" ∧ yX6_feed.cls ≠ "java/lang/invoke/VarHandle" ∧ (parseMethodDescriptor yX6_feed.desc).map (fun d => d.parameters.length) = some 5 := by decide +kernel
set_option maxHeartbeats 4000000 in
theorem w_X6_feed (l : Launch) (D : DD) (sz : Nat) {σ : St} {a0 : Nat} {x1 : Int} {x2 : Int} {x3 : Int} {x4 : Int} {x5 : Int} {w : Int × St} (h : f_X6_feed σ a0 x1 x2 x3 x4 x5 = some w) : Mt l yX6_feed cX6_feed 9 (some FieldType.int) ({ frames := 1, cells := 0, slots := 0, locals := 19 } : Room) D sz σ [.ref a0, iv (x1), iv (x2), iv (x3), iv (x4), iv (x5)] (.returned (some (iv w.1))) (w.2) 0 0 := by
  refine Mt.of (by decide +kernel) (Nat.le_of_ble_eq_true rfl) ?_
  intro Γ X hr hnl hini hnoh
  have X : Cx Γ cX6_feed "DayBoyModel" _ := X
  have hL : ∀ i, i < 9 → i < nLc Γ := fun i q => by rw [hnl]; exact q
  show V Γ σ 0 0 0 [(0, .ref (a0)), (1, iv (x1)), (2, iv (x2)), (3, iv (x3)), (4, iv (x4)), (5, iv (x5))] []
  unfold f_X6_feed at h
  obtain ⟨ho0, h⟩ := cO_some h
  refine r_iconst X dX6_feed_0 ?_
  refine r_istore X dX6_feed_1 (hL 6 (by decide)) (lv' := [(6, iv (0)), (0, .ref (a0)), (1, iv (x1)), (2, iv (x2)), (3, iv (x3)), (4, iv (x4)), (5, iv (x5))]) rfl ?_
  refine r_iconst X dX6_feed_3 ?_
  refine r_istore X dX6_feed_4 (hL 7 (by decide)) (lv' := [(7, iv (0)), (6, iv (0)), (0, .ref (a0)), (1, iv (x1)), (2, iv (x2)), (3, iv (x3)), (4, iv (x4)), (5, iv (x5))]) rfl ?_
  have L6 : ∀ s : Int × Int, lp (fun s => f_X6_feed_b6 (σ) (a0) (x1) (x2) (x3) (x4) (x5) s.1 s.2) s = some w → V Γ (σ) 0 0 6 [(0, .ref (a0)), (1, iv (x1)), (2, iv (x2)), (3, iv (x3)), (4, iv (x4)), (5, iv (x5)), (6, iv (s.1)), (7, iv (s.2))] [] := by
    refine lp_rule (P := fun s : Int × Int => V Γ (σ) 0 0 6 [(0, .ref (a0)), (1, iv (x1)), (2, iv (x2)), (3, iv (x3)), (4, iv (x4)), (5, iv (x5)), (6, iv (s.1)), (7, iv (s.2))] []) ?_
    intro s z1 h ihb1 ihe1
    obtain ⟨v6_1, v7_1⟩ := s
    have h : f_X6_feed_b6 (σ) (a0) (x1) (x2) (x3) (x4) (x5) v6_1 v7_1 = some z1 := h
    unfold f_X6_feed_b6 at h
    show V Γ σ 0 0 6 [(0, .ref (a0)), (1, iv (x1)), (2, iv (x2)), (3, iv (x3)), (4, iv (x4)), (5, iv (x5)), (6, iv (v6_1)), (7, iv (v7_1))] []
    refine r_iload X 7 dX6_feed_6 rfl ?_
    refine r_bipush X dX6_feed_8 (by decide) ?_
    refine r_icmp_ge (tgt := 44) X dX6_feed_10 (by decide) h (fun c1 h => ?_) (fun c1 h => ?_)
    · refine r_iload X 6 dX6_feed_13 rfl ?_
      refine r_iload_n X 1 dX6_feed_15 rfl rfl ?_
      refine r_iload_n X 2 dX6_feed_16 rfl rfl ?_
      refine r_iload_n X 3 dX6_feed_17 rfl rfl ?_
      refine r_iload X 4 dX6_feed_18 rfl ?_
      refine r_iload X 5 dX6_feed_20 rfl ?_
      refine r_iload X 7 dX6_feed_22 rfl ?_
      obtain ⟨r3, h2, h⟩ := bd_some h
      refine r_cS (Wd := 1) X (fun l D sz => w_X6_byteOf l D sz h2) q1464 q1463 q109 q1465 hy_X6_byteOf rfl dX6_feed_24 rfl rfl (Nat.le_of_ble_eq_true rfl) ⟨Nat.le_of_ble_eq_true rfl, Nat.le_of_ble_eq_true rfl⟩ ⟨Nat.le_of_ble_eq_true rfl, Nat.le_of_ble_eq_true rfl⟩ ?_
      refine r_if_eq (tgt := 34) X dX6_feed_27 (by decide) h (fun c4 h => ?_) (fun c4 h => ?_)
      · refine r_iconst X dX6_feed_34 ?_
        refine r_iadd X dX6_feed_35 ?_
        refine r_istore X dX6_feed_36 (hL 6 (by decide)) (lv' := [(6, iv ((v6_1 + 0))), (0, .ref (a0)), (1, iv (x1)), (2, iv (x2)), (3, iv (x3)), (4, iv (x4)), (5, iv (x5)), (7, iv (v7_1))]) rfl ?_
        refine r_iinc X 7 dX6_feed_38 rfl (hL 7 (by decide)) (lv' := [(7, iv ((v7_1 + 1))), (6, iv ((v6_1 + 0))), (0, .ref (a0)), (1, iv (x1)), (2, iv (x2)), (3, iv (x3)), (4, iv (x4)), (5, iv (x5))]) rfl ?_
        refine r_goto (tgt := 6) X dX6_feed_41 (by decide) ?_
        exact V.sub [2, 3, 4, 5, 6, 7, 1, 0] rfl (ihb1 _ (Option.some.inj h).symm)
      · refine r_iconst X dX6_feed_30 ?_
        refine r_goto (tgt := 35) X dX6_feed_31 (by decide) ?_
        refine r_iadd X dX6_feed_35 ?_
        refine r_istore X dX6_feed_36 (hL 6 (by decide)) (lv' := [(6, iv ((v6_1 + 1))), (0, .ref (a0)), (1, iv (x1)), (2, iv (x2)), (3, iv (x3)), (4, iv (x4)), (5, iv (x5)), (7, iv (v7_1))]) rfl ?_
        refine r_iinc X 7 dX6_feed_38 rfl (hL 7 (by decide)) (lv' := [(7, iv ((v7_1 + 1))), (6, iv ((v6_1 + 1))), (0, .ref (a0)), (1, iv (x1)), (2, iv (x2)), (3, iv (x3)), (4, iv (x4)), (5, iv (x5))]) rfl ?_
        refine r_goto (tgt := 6) X dX6_feed_41 (by decide) ?_
        exact V.sub [2, 3, 4, 5, 6, 7, 1, 0] rfl (ihb1 _ (Option.some.inj h).symm)
    · have h := ex_some h ihe1
      refine r_aload_n X 0 dX6_feed_44 rfl rfl ?_
      refine r_getI (kf := 2) X ho0.1 rfl (by decide) rfl (Or.inl q1243) dX6_feed_45 ?_
      refine r_iload X 6 dX6_feed_48 rfl ?_
      refine r_iadd X dX6_feed_50 ?_
      refine r_sipush X dX6_feed_51 (by decide) ?_
      refine r_icmp_le (tgt := 59) X dX6_feed_54 (by decide) h (fun c5 h => ?_) (fun c5 h => ?_)
      · refine r_iconst X dX6_feed_57 ?_
        cases h
        exact r_iret X hr dX6_feed_58
      · refine r_iconst X dX6_feed_59 ?_
        refine r_istore X dX6_feed_60 (hL 7 (by decide)) (lv' := [(7, iv (0)), (0, .ref (a0)), (1, iv (x1)), (2, iv (x2)), (3, iv (x3)), (4, iv (x4)), (5, iv (x5)), (6, iv (v6_1))]) rfl ?_
        have L62 : ∀ s : Int × St, lp (fun s => f_X6_feed_b62 (a0) (x1) (x2) (x3) (x4) (x5) s.1 s.2) s = some w → V Γ (s.2) 0 0 62 [(0, .ref (a0)), (1, iv (x1)), (2, iv (x2)), (3, iv (x3)), (4, iv (x4)), (5, iv (x5)), (7, iv (s.1))] [] := by
          refine lp_rule (P := fun s : Int × St => V Γ (s.2) 0 0 62 [(0, .ref (a0)), (1, iv (x1)), (2, iv (x2)), (3, iv (x3)), (4, iv (x4)), (5, iv (x5)), (7, iv (s.1))] []) ?_
          intro s z1 h ihb1 ihe1
          obtain ⟨v7_1, σ_1⟩ := s
          have h : f_X6_feed_b62 (a0) (x1) (x2) (x3) (x4) (x5) v7_1 σ_1 = some z1 := h
          unfold f_X6_feed_b62 at h
          show V Γ σ_1 0 0 62 [(0, .ref (a0)), (1, iv (x1)), (2, iv (x2)), (3, iv (x3)), (4, iv (x4)), (5, iv (x5)), (7, iv (v7_1))] []
          refine r_iload X 6 dX6_feed_62 rfl ?_
          refine r_bipush X dX6_feed_64 (by decide) ?_
          refine r_icmp_ge (tgt := 115) X dX6_feed_66 (by decide) h (fun c6 h => ?_) (fun c6 h => ?_)
          · refine r_iload_n X 1 dX6_feed_69 rfl rfl ?_
            refine r_iload_n X 2 dX6_feed_70 rfl rfl ?_
            refine r_iload_n X 3 dX6_feed_71 rfl rfl ?_
            refine r_iload X 4 dX6_feed_72 rfl ?_
            refine r_iload X 5 dX6_feed_74 rfl ?_
            refine r_iload X 6 dX6_feed_76 rfl ?_
            obtain ⟨r8, h7, h⟩ := bd_some h
            refine r_cS (Wd := 0) X (fun l D sz => w_X6_byteOf l D sz h7) q1464 q1463 q109 q1465 hy_X6_byteOf rfl dX6_feed_78 rfl rfl (Nat.le_of_ble_eq_true rfl) ⟨Nat.le_of_ble_eq_true rfl, Nat.le_of_ble_eq_true rfl⟩ ⟨Nat.le_of_ble_eq_true rfl, Nat.le_of_ble_eq_true rfl⟩ ?_
            refine r_istore X dX6_feed_81 (hL 8 (by decide)) (lv' := [(8, iv (r8)), (0, .ref (a0)), (1, iv (x1)), (2, iv (x2)), (3, iv (x3)), (4, iv (x4)), (5, iv (x5)), (7, iv (v7_1))]) rfl ?_
            refine r_iload X 0 dX6_feed_83 rfl ?_
            refine r_if_eq (tgt := 109) X dX6_feed_85 (by decide) h (fun c9 h => ?_) (fun c9 h => ?_)
            · refine r_iinc X 7 dX6_feed_109 rfl (hL 7 (by decide)) (lv' := [(7, iv ((v7_1 + 1))), (8, iv (r8)), (0, .ref (a0)), (1, iv (x1)), (2, iv (x2)), (3, iv (x3)), (4, iv (x4)), (5, iv (x5))]) rfl ?_
              refine r_goto (tgt := 62) X dX6_feed_112 (by decide) ?_
              exact V.sub [2, 3, 4, 5, 6, 7, 0] rfl (ihb1 _ (Option.some.inj h).symm)
            · refine r_aload_n X 1 dX6_feed_88 rfl rfl ?_
              obtain ⟨ho10, h⟩ := cO_some h
              refine r_getA (kf := 1) X ho10.1 rfl (by decide) (by decide) (Or.inl q1242) dX6_feed_89 ?_
              refine r_aload_n X 1 dX6_feed_92 rfl rfl ?_
              refine r_getI (kf := 2) X ho10.1 rfl (by decide) rfl (Or.inl q1243) dX6_feed_93 ?_
              refine r_iload X 0 dX6_feed_96 rfl ?_
              refine r_iast X ho10.1 (ho10.2 1 (by decide)) rfl rfl rfl (by decide) dX6_feed_98 h (fun h => ?_)
              refine r_let h (fun σ11 eσ11 h => ?_)
              refine r_aload_n X 1 dX6_feed_99 rfl rfl ?_
              refine r_dup X dX6_feed_100 rfl ?_
              have hk12 : oc σ11 (a0) 5 := by rw [eσ11]; exact ho10
              refine r_getI (kf := 2) X hk12.1 rfl (by decide) rfl (Or.inl q1243) dX6_feed_101 ?_
              refine r_iconst X dX6_feed_104 ?_
              refine r_iadd X dX6_feed_105 ?_
              refine r_putI (kf := 2) X hk12.1 rfl (by decide) rfl rfl (Or.inl q1243) dX6_feed_106 rfl ?_
              refine r_let h (fun σ13 eσ13 h => ?_)
              refine r_iinc X 7 dX6_feed_109 rfl (hL 7 (by decide)) (lv' := [(7, iv ((v7_1 + 1))), (8, iv (r8)), (0, .ref (a0)), (1, iv (x1)), (2, iv (x2)), (3, iv (x3)), (4, iv (x4)), (5, iv (x5))]) rfl ?_
              refine r_goto (tgt := 62) X dX6_feed_112 (by decide) ?_
              exact V.sub [2, 3, 4, 5, 6, 7, 0] rfl (ihb1 _ (Option.some.inj h).symm)
          · have h := ex_some h ihe1
            refine r_aload_n X 0 dX6_feed_115 rfl rfl ?_
            obtain ⟨ho14, h⟩ := cO_some h
            refine r_getI (kf := 2) X ho14.1 rfl (by decide) rfl (Or.inl q1243) dX6_feed_116 ?_
            cases h
            exact r_iret X hr dX6_feed_119
        exact V.sub [1, 2, 3, 4, 5, 6, 0] rfl (L62 (0, σ) h)
  exact V.sub [2, 3, 4, 5, 6, 7, 1, 0] rfl (L6 (0, 0) h)
theorem hy_X6_end : yX6_end.cls ≠ "java/lang/invoke/MethodHandle" ∧ yX6_end.cls ≠ "java/lang/invoke/VarHandle" ∧ (parseMethodDescriptor yX6_end.desc).map (fun d => d.parameters.length) = some 1 := by decide +kernel
set_option maxHeartbeats 4000000 in
theorem w_X6_end (l : Launch) (D : DD) (sz : Nat) {σ : St} {a0 : Nat} {x1 : Int} {w : Int × St} (h : f_X6_end σ a0 x1 = some w) : Mt l yX6_end cX6_end 2 (some FieldType.boolean) ({ frames := 0, cells := 0, slots := 0, locals := 0 } : Room) D sz σ [.ref a0, iv (x1)] (.returned (some (iv w.1))) (w.2) 0 0 := by
  refine Mt.of (by decide +kernel) (Nat.le_of_ble_eq_true rfl) ?_
  intro Γ X hr hnl hini hnoh
  have X : Cx Γ cX6_end "DayBoyModel" _ := X
  have hL : ∀ i, i < 2 → i < nLc Γ := fun i q => by rw [hnl]; exact q
  show V Γ σ 0 0 0 [(0, .ref (a0)), (1, iv (x1))] []
  unfold f_X6_end at h
  obtain ⟨ho0, h⟩ := cO_some h
  refine r_iload_n X 1 dX6_end_0 rfl rfl ?_
  refine r_if_lt (tgt := 12) X dX6_end_1 (by decide) h (fun c1 h => ?_) (fun c1 h => ?_)
  · refine r_iconst X dX6_end_12 ?_
    cases h
    exact r_zret X hr (by decide) dX6_end_13
  · refine r_iload_n X 1 dX6_end_4 rfl rfl ?_
    refine r_aload_n X 0 dX6_end_5 rfl rfl ?_
    refine r_getI (kf := 2) X ho0.1 rfl (by decide) rfl (Or.inl q1243) dX6_end_6 ?_
    refine r_icmp_le (tgt := 14) X dX6_end_9 (by decide) h (fun c3 h => ?_) (fun c3 h => ?_)
    · refine r_iconst X dX6_end_12 ?_
      cases h
      exact r_zret X hr (by decide) dX6_end_13
    · refine r_aload_n X 0 dX6_end_14 rfl rfl ?_
      refine r_iload_n X 1 dX6_end_15 rfl rfl ?_
      refine r_putI (kf := 2) X ho0.1 rfl (by decide) rfl rfl (Or.inl q1243) dX6_end_16 rfl ?_
      refine r_let h (fun σ5 eσ5 h => ?_)
      refine r_iconst X dX6_end_19 ?_
      cases h
      exact r_zret X hr (by decide) dX6_end_20
theorem hy_X6_here : yX6_here.cls ≠ "java/lang/invoke/MethodHandle" ∧ yX6_here.cls ≠ "java/lang/invoke/VarHandle" ∧ (parseMethodDescriptor yX6_here.desc).map (fun d => d.parameters.length) = some 0 := by decide +kernel
set_option maxHeartbeats 4000000 in
theorem w_X6_here (l : Launch) (D : DD) (sz : Nat) {σ : St} {a0 : Nat} {w : Int} (h : f_X6_here σ a0 = some w) : Mt l yX6_here cX6_here 1 (some FieldType.int) ({ frames := 0, cells := 0, slots := 0, locals := 0 } : Room) D sz σ [.ref a0] (.returned (some (iv w))) (σ) 0 0 := by
  refine Mt.of (by decide +kernel) (Nat.le_of_ble_eq_true rfl) ?_
  intro Γ X hr hnl hini hnoh
  have X : Cx Γ cX6_here "DayBoyModel" _ := X
  have hL : ∀ i, i < 1 → i < nLc Γ := fun i q => by rw [hnl]; exact q
  show V Γ σ 0 0 0 [(0, .ref (a0))] []
  unfold f_X6_here at h
  obtain ⟨ho0, h⟩ := cO_some h
  refine r_aload_n X 0 dX6_here_0 rfl rfl ?_
  refine r_getI (kf := 3) X ho0.1 rfl (by decide) rfl (Or.inl q1244) dX6_here_1 ?_
  refine r_aload_n X 0 dX6_here_4 rfl rfl ?_
  refine r_getI (kf := 2) X ho0.1 rfl (by decide) rfl (Or.inl q1243) dX6_here_5 ?_
  refine r_icmp_ge (tgt := 23) X dX6_here_8 (by decide) h (fun c1 h => ?_) (fun c1 h => ?_)
  · refine r_aload_n X 0 dX6_here_11 rfl rfl ?_
    refine r_getA (kf := 1) X ho0.1 rfl (by decide) (by decide) (Or.inl q1242) dX6_here_12 ?_
    refine r_aload_n X 0 dX6_here_15 rfl rfl ?_
    refine r_getI (kf := 3) X ho0.1 rfl (by decide) rfl (Or.inl q1244) dX6_here_16 ?_
    refine r_iald X ho0.1 (ho0.2 1 (by decide)) rfl rfl rfl (by decide) dX6_here_19 h (fun h => ?_)
    refine r_goto (tgt := 24) X dX6_here_20 (by decide) ?_
    cases h
    exact r_iret X hr dX6_here_24
  · refine r_iconst X dX6_here_23 ?_
    cases h
    exact r_iret X hr dX6_here_24
theorem hy_X6_look : yX6_look.cls ≠ "java/lang/invoke/MethodHandle" ∧ yX6_look.cls ≠ "java/lang/invoke/VarHandle" ∧ (parseMethodDescriptor yX6_look.desc).map (fun d => d.parameters.length) = some 0 := by decide +kernel
set_option maxHeartbeats 4000000 in
theorem w_X6_look (l : Launch) (D : DD) (sz : Nat) {σ : St} {a0 : Nat} {w : Int × St} (h : f_X6_look σ a0 = some w) : Mt l yX6_look cX6_look 1 (some FieldType.int) ({ frames := 1, cells := 0, slots := 0, locals := 12 } : Room) D sz σ [.ref a0] (.returned (some (iv w.1))) (w.2) 0 0 := by
  refine Mt.of (by decide +kernel) (Nat.le_of_ble_eq_true rfl) ?_
  intro Γ X hr hnl hini hnoh
  have X : Cx Γ cX6_look "DayBoyModel" _ := X
  have hL : ∀ i, i < 1 → i < nLc Γ := fun i q => by rw [hnl]; exact q
  show V Γ σ 0 0 0 [(0, .ref (a0))] []
  unfold f_X6_look at h
  obtain ⟨ho0, h⟩ := cO_some h
  have L0 : ∀ s : St, lp (fun s => f_X6_look_b0 (a0) s) s = some w → V Γ (s) 0 0 0 [(0, .ref (a0))] [] := by
    refine lp_rule (P := fun s : St => V Γ (s) 0 0 0 [(0, .ref (a0))] []) ?_
    intro s z1 h ihb1 ihe1
    obtain ⟨σ_1, es⟩ : ∃ q, q = s := ⟨s, rfl⟩
    subst es
    have h : f_X6_look_b0 (a0) σ_1 = some z1 := h
    unfold f_X6_look_b0 at h
    show V Γ σ_1 0 0 0 [(0, .ref (a0))] []
    refine r_aload_n X 0 dX6_look_0 rfl rfl ?_
    obtain ⟨ho2, h⟩ := cO_some h
    obtain ⟨r3, h1, h⟩ := bd_some h
    refine r_cV (Wd := 0) X (fun l D sz => w_X6_here l D sz h1) ho2.1 rfl q1492 qs48 q1490 q109 q1493 hy_X6_here rfl dX6_look_1 rfl rfl (Nat.le_of_ble_eq_true rfl) ⟨Nat.le_of_ble_eq_true rfl, Nat.le_of_ble_eq_true rfl⟩ ⟨Nat.le_of_ble_eq_true rfl, Nat.le_of_ble_eq_true rfl⟩ ?_
    refine r_bipush X dX6_look_4 (by decide) ?_
    refine r_icmp_ne (tgt := 22) X dX6_look_6 (by decide) h (fun c4 h => ?_) (fun c4 h => ?_)
    · refine r_aload_n X 0 dX6_look_9 rfl rfl ?_
      refine r_dup X dX6_look_10 rfl ?_
      refine r_getI (kf := 3) X ho2.1 rfl (by decide) rfl (Or.inl q1244) dX6_look_11 ?_
      refine r_iconst X dX6_look_14 ?_
      refine r_iadd X dX6_look_15 ?_
      refine r_putI (kf := 3) X ho2.1 rfl (by decide) rfl rfl (Or.inl q1244) dX6_look_16 rfl ?_
      refine r_let h (fun σ5 eσ5 h => ?_)
      refine r_goto (tgt := 0) X dX6_look_19 (by decide) ?_
      exact V.sub [0] rfl (ihb1 _ (Option.some.inj h).symm)
    · have h := ex_some h ihe1
      refine r_aload_n X 0 dX6_look_22 rfl rfl ?_
      obtain ⟨r7, h6, h⟩ := bd_some h
      refine r_cV (Wd := 0) X (fun l D sz => w_X6_here l D sz h6) ho2.1 rfl q1492 qs48 q1490 q109 q1493 hy_X6_here rfl dX6_look_23 rfl rfl (Nat.le_of_ble_eq_true rfl) ⟨Nat.le_of_ble_eq_true rfl, Nat.le_of_ble_eq_true rfl⟩ ⟨Nat.le_of_ble_eq_true rfl, Nat.le_of_ble_eq_true rfl⟩ ?_
      cases h
      exact r_iret X hr dX6_look_26
  exact V.sub [0] rfl (L0 (σ) h)
theorem hy_X6_isDigit : yX6_isDigit.cls ≠ "java/lang/invoke/MethodHandle" ∧ yX6_isDigit.cls ≠ "java/lang/invoke/VarHandle" ∧ (parseMethodDescriptor yX6_isDigit.desc).map (fun d => d.parameters.length) = some 1 := by decide +kernel
set_option maxHeartbeats 4000000 in
theorem w_X6_isDigit (l : Launch) (D : DD) (sz : Nat) {σ : St} {x0 : Int} {w : Int} (h : f_X6_isDigit σ x0 = some w) : Mt l yX6_isDigit cX6_isDigit 1 (some FieldType.boolean) ({ frames := 0, cells := 0, slots := 0, locals := 0 } : Room) D sz σ [iv (x0)] (.returned (some (iv w))) (σ) 0 0 := by
  refine Mt.of (by decide +kernel) (Nat.le_of_ble_eq_true rfl) ?_
  intro Γ X hr hnl hini hnoh
  have X : Cx Γ cX6_isDigit "DayBoyModel" _ := X
  have hL : ∀ i, i < 1 → i < nLc Γ := fun i q => by rw [hnl]; exact q
  show V Γ σ 0 0 0 [(0, iv (x0))] []
  unfold f_X6_isDigit at h
  refine r_iload_n X 0 dX6_isDigit_0 rfl rfl ?_
  refine r_bipush X dX6_isDigit_1 (by decide) ?_
  refine r_icmp_lt (tgt := 16) X dX6_isDigit_3 (by decide) h (fun c1 h => ?_) (fun c1 h => ?_)
  · refine r_iconst X dX6_isDigit_16 ?_
    cases h
    exact r_zret X hr (by decide) dX6_isDigit_17
  · refine r_iload_n X 0 dX6_isDigit_6 rfl rfl ?_
    refine r_bipush X dX6_isDigit_7 (by decide) ?_
    refine r_icmp_gt (tgt := 16) X dX6_isDigit_9 (by decide) h (fun c3 h => ?_) (fun c3 h => ?_)
    · refine r_iconst X dX6_isDigit_16 ?_
      cases h
      exact r_zret X hr (by decide) dX6_isDigit_17
    · refine r_iconst X dX6_isDigit_12 ?_
      refine r_goto (tgt := 17) X dX6_isDigit_13 (by decide) ?_
      cases h
      exact r_zret X hr (by decide) dX6_isDigit_17
theorem hy_X6_bad : yX6_bad.cls ≠ "java/lang/invoke/MethodHandle" ∧ yX6_bad.cls ≠ "java/lang/invoke/VarHandle" ∧ (parseMethodDescriptor yX6_bad.desc).map (fun d => d.parameters.length) = some 0 := by decide +kernel
set_option maxHeartbeats 4000000 in
theorem w_X6_bad (l : Launch) (D : DD) (sz : Nat) {σ : St} {a0 : Nat} {w : St} (h : f_X6_bad σ a0 = some w) : Mt l yX6_bad cX6_bad 1 none ({ frames := 0, cells := 0, slots := 0, locals := 0 } : Room) D sz σ [.ref a0] (.returned none) (w) 0 0 := by
  refine Mt.of (by decide +kernel) (Nat.le_of_ble_eq_true rfl) ?_
  intro Γ X hr hnl hini hnoh
  have X : Cx Γ cX6_bad "DayBoyModel" _ := X
  have hL : ∀ i, i < 1 → i < nLc Γ := fun i q => by rw [hnl]; exact q
  show V Γ σ 0 0 0 [(0, .ref (a0))] []
  unfold f_X6_bad at h
  obtain ⟨ho0, h⟩ := cO_some h
  have J20 : ∀ (t0_j20 : Int) (t1_j20 : Nat) (σ_j20 : St), f_X6_bad_j20  t0_j20 t1_j20 σ_j20 = some w → V Γ σ_j20 0 0 20 [] [iv (t0_j20), .ref (t1_j20)] := by
    intro t0_j20 t1_j20 σ_j20 h
    unfold f_X6_bad_j20 at h
    obtain ⟨ho1, h⟩ := cO_some h
    refine r_putI (kf := 4) X ho1.1 rfl (by decide) rfl rfl (Or.inl q1245) dX6_bad_20 rfl ?_
    refine r_let h (fun σ2 eσ2 h => ?_)
    cases h
    exact r_vret X hr dX6_bad_23
  refine r_aload_n X 0 dX6_bad_0 rfl rfl ?_
  refine r_aload_n X 0 dX6_bad_1 rfl rfl ?_
  refine r_getI (kf := 4) X ho0.1 rfl (by decide) rfl (Or.inl q1245) dX6_bad_2 ?_
  refine r_iconst X dX6_bad_5 ?_
  refine r_icmp_ne (tgt := 16) X dX6_bad_6 (by decide) h (fun c3 h => ?_) (fun c3 h => ?_)
  · refine r_aload_n X 0 dX6_bad_9 rfl rfl ?_
    refine r_getI (kf := 3) X ho0.1 rfl (by decide) rfl (Or.inl q1244) dX6_bad_10 ?_
    refine r_goto (tgt := 20) X dX6_bad_13 (by decide) ?_
    exact V.sub [] rfl (J20 ((gI (σ) (a0) 3 0)) (a0) (σ) h)
  · refine r_aload_n X 0 dX6_bad_16 rfl rfl ?_
    refine r_getI (kf := 4) X ho0.1 rfl (by decide) rfl (Or.inl q1245) dX6_bad_17 ?_
    exact V.sub [] rfl (J20 ((gI (σ) (a0) 4 0)) (a0) (σ) h)
theorem hy_X6_in : yX6_in.cls ≠ "java/lang/invoke/MethodHandle" ∧ yX6_in.cls ≠ "java/lang/invoke/VarHandle" ∧ (parseMethodDescriptor yX6_in.desc).map (fun d => d.parameters.length) = some 3 := by decide +kernel
set_option maxHeartbeats 4000000 in
theorem w_X6_in (l : Launch) (D : DD) (sz : Nat) {σ : St} {x0 : Int} {x1 : Int} {x2 : Int} {w : Int} (h : f_X6_in σ x0 x1 x2 = some w) : Mt l yX6_in cX6_in 3 (some FieldType.boolean) ({ frames := 0, cells := 0, slots := 0, locals := 0 } : Room) D sz σ [iv (x0), iv (x1), iv (x2)] (.returned (some (iv w))) (σ) 0 0 := by
  refine Mt.of (by decide +kernel) (Nat.le_of_ble_eq_true rfl) ?_
  intro Γ X hr hnl hini hnoh
  have X : Cx Γ cX6_in "DayBoyModel" _ := X
  have hL : ∀ i, i < 3 → i < nLc Γ := fun i q => by rw [hnl]; exact q
  show V Γ σ 0 0 0 [(0, iv (x0)), (1, iv (x1)), (2, iv (x2))] []
  unfold f_X6_in at h
  refine r_iload_n X 0 dX6_in_0 rfl rfl ?_
  refine r_iload_n X 1 dX6_in_1 rfl rfl ?_
  refine r_icmp_lt (tgt := 14) X dX6_in_2 (by decide) h (fun c1 h => ?_) (fun c1 h => ?_)
  · refine r_iconst X dX6_in_14 ?_
    cases h
    exact r_zret X hr (by decide) dX6_in_15
  · refine r_iload_n X 0 dX6_in_5 rfl rfl ?_
    refine r_iload_n X 2 dX6_in_6 rfl rfl ?_
    refine r_icmp_gt (tgt := 14) X dX6_in_7 (by decide) h (fun c3 h => ?_) (fun c3 h => ?_)
    · refine r_iconst X dX6_in_14 ?_
      cases h
      exact r_zret X hr (by decide) dX6_in_15
    · refine r_iconst X dX6_in_10 ?_
      refine r_goto (tgt := 15) X dX6_in_11 (by decide) ?_
      cases h
      exact r_zret X hr (by decide) dX6_in_15
theorem hy_X6_wrongAtLast : yX6_wrongAtLast.cls ≠ "java/lang/invoke/MethodHandle" ∧ yX6_wrongAtLast.cls ≠ "java/lang/invoke/VarHandle" ∧ (parseMethodDescriptor yX6_wrongAtLast.desc).map (fun d => d.parameters.length) = some 0 := by decide +kernel
set_option maxHeartbeats 4000000 in
theorem w_X6_wrongAtLast (l : Launch) (D : DD) (sz : Nat) {σ : St} {a0 : Nat} {w : St} (h : f_X6_wrongAtLast σ a0 = some w) : Mt l yX6_wrongAtLast cX6_wrongAtLast 1 none ({ frames := 0, cells := 0, slots := 0, locals := 0 } : Room) D sz σ [.ref a0] (.returned none) (w) 0 0 := by
  refine Mt.of (by decide +kernel) (Nat.le_of_ble_eq_true rfl) ?_
  intro Γ X hr hnl hini hnoh
  have X : Cx Γ cX6_wrongAtLast "DayBoyModel" _ := X
  have hL : ∀ i, i < 1 → i < nLc Γ := fun i q => by rw [hnl]; exact q
  show V Γ σ 0 0 0 [(0, .ref (a0))] []
  unfold f_X6_wrongAtLast at h
  obtain ⟨ho0, h⟩ := cO_some h
  have J22 : ∀ (t0_j22 : Int) (t1_j22 : Nat) (σ_j22 : St), f_X6_wrongAtLast_j22  t0_j22 t1_j22 σ_j22 = some w → V Γ σ_j22 0 0 22 [] [iv (t0_j22), .ref (t1_j22)] := by
    intro t0_j22 t1_j22 σ_j22 h
    unfold f_X6_wrongAtLast_j22 at h
    obtain ⟨ho1, h⟩ := cO_some h
    refine r_putI (kf := 4) X ho1.1 rfl (by decide) rfl rfl (Or.inl q1245) dX6_wrongAtLast_22 rfl ?_
    refine r_let h (fun σ2 eσ2 h => ?_)
    cases h
    exact r_vret X hr dX6_wrongAtLast_25
  refine r_aload_n X 0 dX6_wrongAtLast_0 rfl rfl ?_
  refine r_aload_n X 0 dX6_wrongAtLast_1 rfl rfl ?_
  refine r_getI (kf := 4) X ho0.1 rfl (by decide) rfl (Or.inl q1245) dX6_wrongAtLast_2 ?_
  refine r_iconst X dX6_wrongAtLast_5 ?_
  refine r_icmp_ne (tgt := 18) X dX6_wrongAtLast_6 (by decide) h (fun c3 h => ?_) (fun c3 h => ?_)
  · refine r_aload_n X 0 dX6_wrongAtLast_9 rfl rfl ?_
    refine r_getI (kf := 3) X ho0.1 rfl (by decide) rfl (Or.inl q1244) dX6_wrongAtLast_10 ?_
    refine r_iconst X dX6_wrongAtLast_13 ?_
    refine r_isub X dX6_wrongAtLast_14 ?_
    refine r_goto (tgt := 22) X dX6_wrongAtLast_15 (by decide) ?_
    exact V.sub [] rfl (J22 (((gI (σ) (a0) 3 0) - 1)) (a0) (σ) h)
  · refine r_aload_n X 0 dX6_wrongAtLast_18 rfl rfl ?_
    refine r_getI (kf := 4) X ho0.1 rfl (by decide) rfl (Or.inl q1245) dX6_wrongAtLast_19 ?_
    exact V.sub [] rfl (J22 ((gI (σ) (a0) 4 0)) (a0) (σ) h)
theorem hy_X6_number : yX6_number.cls ≠ "java/lang/invoke/MethodHandle" ∧ yX6_number.cls ≠ "java/lang/invoke/VarHandle" ∧ (parseMethodDescriptor yX6_number.desc).map (fun d => d.parameters.length) = some 2 := by decide +kernel
set_option maxHeartbeats 4000000 in
theorem w_X6_number (l : Launch) (D : DD) (sz : Nat) {σ : St} {a0 : Nat} {x1 : Int} {x2 : Int} {w : Int × St} (h : f_X6_number σ a0 x1 x2 = some w) : Mt l yX6_number cX6_number 5 (some FieldType.int) ({ frames := 2, cells := 0, slots := 0, locals := 24 } : Room) D sz σ [.ref a0, iv (x1), iv (x2)] (.returned (some (iv w.1))) (w.2) 0 0 := by
  refine Mt.of (by decide +kernel) (Nat.le_of_ble_eq_true rfl) ?_
  intro Γ X hr hnl hini hnoh
  have X : Cx Γ cX6_number "DayBoyModel" _ := X
  have hL : ∀ i, i < 5 → i < nLc Γ := fun i q => by rw [hnl]; exact q
  show V Γ σ 0 0 0 [(0, .ref (a0)), (1, iv (x1)), (2, iv (x2))] []
  unfold f_X6_number at h
  obtain ⟨ho0, h⟩ := cO_some h
  have J74 : ∀ (v3_j74 : Int) (σ_j74 : St), f_X6_number_j74 (a0) (x1) (x2) v3_j74 σ_j74 = some w → V Γ σ_j74 0 0 74 [(0, .ref (a0)), (1, iv (x1)), (2, iv (x2)), (3, iv (v3_j74))] [] := by
    intro v3_j74 σ_j74 h
    unfold f_X6_number_j74 at h
    refine r_aload_n X 0 dX6_number_74 rfl rfl ?_
    obtain ⟨ho2, h⟩ := cO_some h
    obtain ⟨r3, h1, h⟩ := bd_some h
    refine r_cV (Wd := 0) X (fun l D sz => w_X6_here l D sz h1) ho2.1 rfl q1492 qs48 q1490 q109 q1493 hy_X6_here rfl dX6_number_75 rfl rfl (Nat.le_of_ble_eq_true rfl) ⟨Nat.le_of_ble_eq_true rfl, Nat.le_of_ble_eq_true rfl⟩ ⟨Nat.le_of_ble_eq_true rfl, Nat.le_of_ble_eq_true rfl⟩ ?_
    obtain ⟨r5, h4, h⟩ := bd_some h
    refine r_cS (Wd := 0) X (fun l D sz => w_X6_isDigit l D sz h4) q1495 q1494 q109 q1496 hy_X6_isDigit rfl dX6_number_78 rfl rfl (Nat.le_of_ble_eq_true rfl) ⟨Nat.le_of_ble_eq_true rfl, Nat.le_of_ble_eq_true rfl⟩ ⟨Nat.le_of_ble_eq_true rfl, Nat.le_of_ble_eq_true rfl⟩ ?_
    refine r_if_eq (tgt := 91) X dX6_number_81 (by decide) h (fun c6 h => ?_) (fun c6 h => ?_)
    · refine r_iload_n X 3 dX6_number_91 rfl rfl ?_
      refine r_iload_n X 1 dX6_number_92 rfl rfl ?_
      refine r_iload_n X 2 dX6_number_93 rfl rfl ?_
      obtain ⟨r8, h7, h⟩ := bd_some h
      refine r_cS (Wd := 0) X (fun l D sz => w_X6_in l D sz h7) q1502 q1501 q109 q1503 hy_X6_in rfl dX6_number_94 rfl rfl (Nat.le_of_ble_eq_true rfl) ⟨Nat.le_of_ble_eq_true rfl, Nat.le_of_ble_eq_true rfl⟩ ⟨Nat.le_of_ble_eq_true rfl, Nat.le_of_ble_eq_true rfl⟩ ?_
      refine r_if_ne (tgt := 104) X dX6_number_97 (by decide) h (fun c9 h => ?_) (fun c9 h => ?_)
      · refine r_aload_n X 0 dX6_number_100 rfl rfl ?_
        obtain ⟨σ11, h10, h⟩ := bd_some h
        refine r_cV (Wd := 0) X (fun l D sz => w_X6_wrongAtLast l D sz h10) ho2.1 rfl q1506 qs50 q1504 q109 q1507 hy_X6_wrongAtLast rfl dX6_number_101 rfl rfl (Nat.le_of_ble_eq_true rfl) ⟨Nat.le_of_ble_eq_true rfl, Nat.le_of_ble_eq_true rfl⟩ ⟨Nat.le_of_ble_eq_true rfl, Nat.le_of_ble_eq_true rfl⟩ ?_
        refine r_iload_n X 3 dX6_number_104 rfl rfl ?_
        cases h
        exact r_iret X hr dX6_number_105
      · refine r_iload_n X 3 dX6_number_104 rfl rfl ?_
        cases h
        exact r_iret X hr dX6_number_105
    · refine r_aload_n X 0 dX6_number_84 rfl rfl ?_
      obtain ⟨σ13, h12, h⟩ := bd_some h
      refine r_cV (Wd := 0) X (fun l D sz => w_X6_bad l D sz h12) ho2.1 rfl q1499 qs49 q1497 q109 q1500 hy_X6_bad rfl dX6_number_85 rfl rfl (Nat.le_of_ble_eq_true rfl) ⟨Nat.le_of_ble_eq_true rfl, Nat.le_of_ble_eq_true rfl⟩ ⟨Nat.le_of_ble_eq_true rfl, Nat.le_of_ble_eq_true rfl⟩ ?_
      refine r_goto (tgt := 104) X dX6_number_88 (by decide) ?_
      refine r_iload_n X 3 dX6_number_104 rfl rfl ?_
      cases h
      exact r_iret X hr dX6_number_105
  have J18 : ∀ (σ_j18 : St), f_X6_number_j18 (a0) (x1) σ_j18 = some w → V Γ σ_j18 0 0 18 [(0, .ref (a0)), (1, iv (x1))] [] := by
    intro σ_j18 h
    unfold f_X6_number_j18 at h
    refine r_aload_n X 0 dX6_number_18 rfl rfl ?_
    obtain ⟨ho15, h⟩ := cO_some h
    obtain ⟨σ16, h14, h⟩ := bd_some h
    refine r_cV (Wd := 0) X (fun l D sz => w_X6_bad l D sz h14) ho15.1 rfl q1499 qs49 q1497 q109 q1500 hy_X6_bad rfl dX6_number_19 rfl rfl (Nat.le_of_ble_eq_true rfl) ⟨Nat.le_of_ble_eq_true rfl, Nat.le_of_ble_eq_true rfl⟩ ⟨Nat.le_of_ble_eq_true rfl, Nat.le_of_ble_eq_true rfl⟩ ?_
    refine r_iload_n X 1 dX6_number_22 rfl rfl ?_
    cases h
    exact r_iret X hr dX6_number_23
  refine r_aload_n X 0 dX6_number_0 rfl rfl ?_
  refine r_getI (kf := 4) X ho0.1 rfl (by decide) rfl (Or.inl q1245) dX6_number_1 ?_
  refine r_iconst X dX6_number_4 ?_
  refine r_icmp_ne (tgt := 18) X dX6_number_5 (by decide) h (fun c17 h => ?_) (fun c17 h => ?_)
  · refine r_aload_n X 0 dX6_number_8 rfl rfl ?_
    obtain ⟨r19, σ20, h18, h⟩ := bd2_some h
    refine r_cV (Wd := 0) X (fun l D sz => w_X6_look l D sz h18) ho0.1 rfl q1488 qs47 q1486 q109 q1489 hy_X6_look rfl dX6_number_9 rfl rfl (Nat.le_of_ble_eq_true rfl) ⟨Nat.le_of_ble_eq_true rfl, Nat.le_of_ble_eq_true rfl⟩ ⟨Nat.le_of_ble_eq_true rfl, Nat.le_of_ble_eq_true rfl⟩ ?_
    obtain ⟨r22, h21, h⟩ := bd_some h
    refine r_cS (Wd := 0) X (fun l D sz => w_X6_isDigit l D sz h21) q1495 q1494 q109 q1496 hy_X6_isDigit rfl dX6_number_12 rfl rfl (Nat.le_of_ble_eq_true rfl) ⟨Nat.le_of_ble_eq_true rfl, Nat.le_of_ble_eq_true rfl⟩ ⟨Nat.le_of_ble_eq_true rfl, Nat.le_of_ble_eq_true rfl⟩ ?_
    refine r_if_ne (tgt := 24) X dX6_number_15 (by decide) h (fun c23 h => ?_) (fun c23 h => ?_)
    · exact V.sub [0, 1] rfl (J18 (σ20) h)
    · refine r_iconst X dX6_number_24 ?_
      refine r_istore_n X dX6_number_25 rfl (hL 3 (by decide)) (lv' := [(3, iv (0)), (0, .ref (a0)), (1, iv (x1)), (2, iv (x2))]) rfl ?_
      refine r_iconst X dX6_number_26 ?_
      refine r_istore X dX6_number_27 (hL 4 (by decide)) (lv' := [(4, iv (0)), (3, iv (0)), (0, .ref (a0)), (1, iv (x1)), (2, iv (x2))]) rfl ?_
      have L29 : ∀ s : Int × Int × St, lp (fun s => f_X6_number_b29 (a0) (x1) (x2) s.1 s.2.1 s.2.2) s = some w → V Γ (s.2.2) 0 0 29 [(0, .ref (a0)), (1, iv (x1)), (2, iv (x2)), (3, iv (s.1)), (4, iv (s.2.1))] [] := by
        refine lp_rule (P := fun s : Int × Int × St => V Γ (s.2.2) 0 0 29 [(0, .ref (a0)), (1, iv (x1)), (2, iv (x2)), (3, iv (s.1)), (4, iv (s.2.1))] []) ?_
        intro s z1 h ihb1 ihe1
        obtain ⟨v3_1, v4_1, σ_1⟩ := s
        have h : f_X6_number_b29 (a0) (x1) (x2) v3_1 v4_1 σ_1 = some z1 := h
        unfold f_X6_number_b29 at h
        show V Γ σ_1 0 0 29 [(0, .ref (a0)), (1, iv (x1)), (2, iv (x2)), (3, iv (v3_1)), (4, iv (v4_1))] []
        refine r_iload X 4 dX6_number_29 rfl ?_
        refine r_iconst X dX6_number_31 ?_
        refine r_icmp_ge (tgt := 74) X dX6_number_32 (by decide) h (fun c24 h => ?_) (fun c24 h => ?_)
        · refine r_aload_n X 0 dX6_number_35 rfl rfl ?_
          obtain ⟨ho26, h⟩ := cO_some h
          obtain ⟨r27, h25, h⟩ := bd_some h
          refine r_cV (Wd := 0) X (fun l D sz => w_X6_here l D sz h25) ho26.1 rfl q1492 qs48 q1490 q109 q1493 hy_X6_here rfl dX6_number_36 rfl rfl (Nat.le_of_ble_eq_true rfl) ⟨Nat.le_of_ble_eq_true rfl, Nat.le_of_ble_eq_true rfl⟩ ⟨Nat.le_of_ble_eq_true rfl, Nat.le_of_ble_eq_true rfl⟩ ?_
          obtain ⟨r29, h28, h⟩ := bd_some h
          refine r_cS (Wd := 0) X (fun l D sz => w_X6_isDigit l D sz h28) q1495 q1494 q109 q1496 hy_X6_isDigit rfl dX6_number_39 rfl rfl (Nat.le_of_ble_eq_true rfl) ⟨Nat.le_of_ble_eq_true rfl, Nat.le_of_ble_eq_true rfl⟩ ⟨Nat.le_of_ble_eq_true rfl, Nat.le_of_ble_eq_true rfl⟩ ?_
          refine r_if_eq (tgt := 74) X dX6_number_42 (by decide) h (fun c30 h => ?_) (fun c30 h => ?_)
          · have h := ex_some h ihe1
            exact V.sub [0, 1, 2, 3] rfl (J74 (v3_1) (σ_1) h)
          · refine r_bipush X dX6_number_45 (by decide) ?_
            refine r_iload_n X 3 dX6_number_47 rfl rfl ?_
            refine r_imul X dX6_number_48 ?_
            refine r_aload_n X 0 dX6_number_49 rfl rfl ?_
            obtain ⟨r32, h31, h⟩ := bd_some h
            refine r_cV (Wd := 1) X (fun l D sz => w_X6_here l D sz h31) ho26.1 rfl q1492 qs48 q1490 q109 q1493 hy_X6_here rfl dX6_number_50 rfl rfl (Nat.le_of_ble_eq_true rfl) ⟨Nat.le_of_ble_eq_true rfl, Nat.le_of_ble_eq_true rfl⟩ ⟨Nat.le_of_ble_eq_true rfl, Nat.le_of_ble_eq_true rfl⟩ ?_
            refine r_iadd X dX6_number_53 ?_
            refine r_bipush X dX6_number_54 (by decide) ?_
            refine r_isub X dX6_number_56 ?_
            refine r_istore_n X dX6_number_57 rfl (hL 3 (by decide)) (lv' := [(3, iv ((((10 * v3_1) + r32) - 48))), (0, .ref (a0)), (1, iv (x1)), (2, iv (x2)), (4, iv (v4_1))]) rfl ?_
            refine r_aload_n X 1 dX6_number_58 rfl rfl ?_
            refine r_dup X dX6_number_59 rfl ?_
            refine r_getI (kf := 3) X ho26.1 rfl (by decide) rfl (Or.inl q1244) dX6_number_60 ?_
            refine r_iconst X dX6_number_63 ?_
            refine r_iadd X dX6_number_64 ?_
            refine r_putI (kf := 3) X ho26.1 rfl (by decide) rfl rfl (Or.inl q1244) dX6_number_65 rfl ?_
            refine r_let h (fun σ33 eσ33 h => ?_)
            refine r_iinc X 4 dX6_number_68 rfl (hL 4 (by decide)) (lv' := [(4, iv ((v4_1 + 1))), (3, iv ((((10 * v3_1) + r32) - 48))), (0, .ref (a0)), (1, iv (x1)), (2, iv (x2))]) rfl ?_
            refine r_goto (tgt := 29) X dX6_number_71 (by decide) ?_
            exact V.sub [2, 3, 4, 1, 0] rfl (ihb1 _ (Option.some.inj h).symm)
        · have h := ex_some h ihe1
          exact V.sub [0, 1, 2, 3] rfl (J74 (v3_1) (σ_1) h)
      exact V.sub [2, 3, 4, 1, 0] rfl (L29 (0, 0, σ20) h)
  · exact V.sub [0, 1] rfl (J18 (σ) h)
theorem hy_X6_closeNumber : yX6_closeNumber.cls ≠ "java/lang/invoke/MethodHandle" ∧ yX6_closeNumber.cls ≠ "java/lang/invoke/VarHandle" ∧ (parseMethodDescriptor yX6_closeNumber.desc).map (fun d => d.parameters.length) = some 0 := by decide +kernel
set_option maxHeartbeats 4000000 in
theorem w_X6_closeNumber (l : Launch) (D : DD) (sz : Nat) {σ : St} {a0 : Nat} {w : St} (h : f_X6_closeNumber σ a0 = some w) : Mt l yX6_closeNumber cX6_closeNumber 1 none ({ frames := 1, cells := 0, slots := 0, locals := 12 } : Room) D sz σ [.ref a0] (.returned none) (w) 0 0 := by
  refine Mt.of (by decide +kernel) (Nat.le_of_ble_eq_true rfl) ?_
  intro Γ X hr hnl hini hnoh
  have X : Cx Γ cX6_closeNumber "DayBoyModel" _ := X
  have hL : ∀ i, i < 1 → i < nLc Γ := fun i q => by rw [hnl]; exact q
  show V Γ σ 0 0 0 [(0, .ref (a0))] []
  unfold f_X6_closeNumber at h
  obtain ⟨ho0, h⟩ := cO_some h
  refine r_aload_n X 0 dX6_closeNumber_0 rfl rfl ?_
  refine r_getI (kf := 4) X ho0.1 rfl (by decide) rfl (Or.inl q1245) dX6_closeNumber_1 ?_
  refine r_iconst X dX6_closeNumber_4 ?_
  refine r_icmp_ne (tgt := 22) X dX6_closeNumber_5 (by decide) h (fun c1 h => ?_) (fun c1 h => ?_)
  · refine r_aload_n X 0 dX6_closeNumber_8 rfl rfl ?_
    obtain ⟨r3, h2, h⟩ := bd_some h
    refine r_cV (Wd := 0) X (fun l D sz => w_X6_here l D sz h2) ho0.1 rfl q1492 qs48 q1490 q109 q1493 hy_X6_here rfl dX6_closeNumber_9 rfl rfl (Nat.le_of_ble_eq_true rfl) ⟨Nat.le_of_ble_eq_true rfl, Nat.le_of_ble_eq_true rfl⟩ ⟨Nat.le_of_ble_eq_true rfl, Nat.le_of_ble_eq_true rfl⟩ ?_
    obtain ⟨r5, h4, h⟩ := bd_some h
    refine r_cS (Wd := 0) X (fun l D sz => w_X6_isDigit l D sz h4) q1495 q1494 q109 q1496 hy_X6_isDigit rfl dX6_closeNumber_12 rfl rfl (Nat.le_of_ble_eq_true rfl) ⟨Nat.le_of_ble_eq_true rfl, Nat.le_of_ble_eq_true rfl⟩ ⟨Nat.le_of_ble_eq_true rfl, Nat.le_of_ble_eq_true rfl⟩ ?_
    refine r_if_eq (tgt := 22) X dX6_closeNumber_15 (by decide) h (fun c6 h => ?_) (fun c6 h => ?_)
    · cases h
      exact r_vret X hr dX6_closeNumber_22
    · refine r_aload_n X 0 dX6_closeNumber_18 rfl rfl ?_
      obtain ⟨σ8, h7, h⟩ := bd_some h
      refine r_cV (Wd := 0) X (fun l D sz => w_X6_bad l D sz h7) ho0.1 rfl q1499 qs49 q1497 q109 q1500 hy_X6_bad rfl dX6_closeNumber_19 rfl rfl (Nat.le_of_ble_eq_true rfl) ⟨Nat.le_of_ble_eq_true rfl, Nat.le_of_ble_eq_true rfl⟩ ⟨Nat.le_of_ble_eq_true rfl, Nat.le_of_ble_eq_true rfl⟩ ?_
      cases h
      exact r_vret X hr dX6_closeNumber_22
  · cases h
    exact r_vret X hr dX6_closeNumber_22
theorem hy_X6_plain : yX6_plain.cls ≠ "java/lang/invoke/MethodHandle" ∧ yX6_plain.cls ≠ "java/lang/invoke/VarHandle" ∧ (parseMethodDescriptor yX6_plain.desc).map (fun d => d.parameters.length) = some 2 := by decide +kernel
set_option maxHeartbeats 4000000 in
theorem w_X6_plain (l : Launch) (D : DD) (sz : Nat) {σ : St} {a0 : Nat} {x1 : Int} {x2 : Int} {w : Int × St} (h : f_X6_plain σ a0 x1 x2 = some w) : Mt l yX6_plain cX6_plain 4 (some FieldType.int) ({ frames := 3, cells := 0, slots := 0, locals := 40 } : Room) D sz σ [.ref a0, iv (x1), iv (x2)] (.returned (some (iv w.1))) (w.2) 0 0 := by
  refine Mt.of (by decide +kernel) (Nat.le_of_ble_eq_true rfl) ?_
  intro Γ X hr hnl hini hnoh
  have X : Cx Γ cX6_plain "DayBoyModel" _ := X
  have hL : ∀ i, i < 4 → i < nLc Γ := fun i q => by rw [hnl]; exact q
  show V Γ σ 0 0 0 [(0, .ref (a0)), (1, iv (x1)), (2, iv (x2))] []
  unfold f_X6_plain at h
  obtain ⟨ho0, h⟩ := cO_some h
  refine r_aload_n X 0 dX6_plain_0 rfl rfl ?_
  refine r_iload_n X 1 dX6_plain_1 rfl rfl ?_
  refine r_iload_n X 2 dX6_plain_2 rfl rfl ?_
  obtain ⟨r2, σ3, h1, h⟩ := bd2_some h
  refine r_cV (Wd := 0) X (fun l D sz => w_X6_number l D sz h1) ho0.1 rfl q1484 qs46 q1482 q109 q1485 hy_X6_number rfl dX6_plain_3 rfl rfl (Nat.le_of_ble_eq_true rfl) ⟨Nat.le_of_ble_eq_true rfl, Nat.le_of_ble_eq_true rfl⟩ ⟨Nat.le_of_ble_eq_true rfl, Nat.le_of_ble_eq_true rfl⟩ ?_
  refine r_istore_n X dX6_plain_6 rfl (hL 3 (by decide)) (lv' := [(3, iv (r2)), (0, .ref (a0)), (1, iv (x1)), (2, iv (x2))]) rfl ?_
  refine r_aload_n X 1 dX6_plain_7 rfl rfl ?_
  obtain ⟨ho5, h⟩ := cO_some h
  obtain ⟨σ6, h4, h⟩ := bd_some h
  refine r_cV (Wd := 0) X (fun l D sz => w_X6_closeNumber l D sz h4) ho5.1 rfl q1510 qs51 q1508 q109 q1511 hy_X6_closeNumber rfl dX6_plain_8 rfl rfl (Nat.le_of_ble_eq_true rfl) ⟨Nat.le_of_ble_eq_true rfl, Nat.le_of_ble_eq_true rfl⟩ ⟨Nat.le_of_ble_eq_true rfl, Nat.le_of_ble_eq_true rfl⟩ ?_
  refine r_iload_n X 0 dX6_plain_11 rfl rfl ?_
  cases h
  exact r_iret X hr dX6_plain_12
theorem hy_X6_sign : yX6_sign.cls ≠ "java/lang/invoke/MethodHandle" ∧ yX6_sign.cls ≠ "java/lang/invoke/VarHandle" ∧ (parseMethodDescriptor yX6_sign.desc).map (fun d => d.parameters.length) = some 1 := by decide +kernel
set_option maxHeartbeats 4000000 in
theorem w_X6_sign (l : Launch) (D : DD) (sz : Nat) {σ : St} {a0 : Nat} {x1 : Int} {w : St} (h : f_X6_sign σ a0 x1 = some w) : Mt l yX6_sign cX6_sign 2 none ({ frames := 2, cells := 0, slots := 0, locals := 24 } : Room) D sz σ [.ref a0, iv (x1)] (.returned none) (w) 0 0 := by
  refine Mt.of (by decide +kernel) (Nat.le_of_ble_eq_true rfl) ?_
  intro Γ X hr hnl hini hnoh
  have X : Cx Γ cX6_sign "DayBoyModel" _ := X
  have hL : ∀ i, i < 2 → i < nLc Γ := fun i q => by rw [hnl]; exact q
  show V Γ σ 0 0 0 [(0, .ref (a0)), (1, iv (x1))] []
  unfold f_X6_sign at h
  obtain ⟨ho0, h⟩ := cO_some h
  have J20 : ∀ (σ_j20 : St), f_X6_sign_j20 (a0) σ_j20 = some w → V Γ σ_j20 0 0 20 [(0, .ref (a0))] [] := by
    intro σ_j20 h
    unfold f_X6_sign_j20 at h
    refine r_aload_n X 0 dX6_sign_20 rfl rfl ?_
    refine r_dup X dX6_sign_21 rfl ?_
    obtain ⟨ho1, h⟩ := cO_some h
    refine r_getI (kf := 3) X ho1.1 rfl (by decide) rfl (Or.inl q1244) dX6_sign_22 ?_
    refine r_iconst X dX6_sign_25 ?_
    refine r_iadd X dX6_sign_26 ?_
    refine r_putI (kf := 3) X ho1.1 rfl (by decide) rfl rfl (Or.inl q1244) dX6_sign_27 rfl ?_
    refine r_let h (fun σ2 eσ2 h => ?_)
    cases h
    exact r_vret X hr dX6_sign_30
  refine r_aload_n X 0 dX6_sign_0 rfl rfl ?_
  refine r_getI (kf := 4) X ho0.1 rfl (by decide) rfl (Or.inl q1245) dX6_sign_1 ?_
  refine r_iconst X dX6_sign_4 ?_
  refine r_icmp_ne (tgt := 20) X dX6_sign_5 (by decide) h (fun c3 h => ?_) (fun c3 h => ?_)
  · refine r_aload_n X 0 dX6_sign_8 rfl rfl ?_
    obtain ⟨r5, σ6, h4, h⟩ := bd2_some h
    refine r_cV (Wd := 0) X (fun l D sz => w_X6_look l D sz h4) ho0.1 rfl q1488 qs47 q1486 q109 q1489 hy_X6_look rfl dX6_sign_9 rfl rfl (Nat.le_of_ble_eq_true rfl) ⟨Nat.le_of_ble_eq_true rfl, Nat.le_of_ble_eq_true rfl⟩ ⟨Nat.le_of_ble_eq_true rfl, Nat.le_of_ble_eq_true rfl⟩ ?_
    refine r_iload_n X 1 dX6_sign_12 rfl rfl ?_
    refine r_icmp_eq (tgt := 20) X dX6_sign_13 (by decide) h (fun c7 h => ?_) (fun c7 h => ?_)
    · exact V.sub [0] rfl (J20 (σ6) h)
    · refine r_aload_n X 0 dX6_sign_16 rfl rfl ?_
      obtain ⟨ho9, h⟩ := cO_some h
      obtain ⟨σ10, h8, h⟩ := bd_some h
      refine r_cV (Wd := 0) X (fun l D sz => w_X6_bad l D sz h8) ho9.1 rfl q1499 qs49 q1497 q109 q1500 hy_X6_bad rfl dX6_sign_17 rfl rfl (Nat.le_of_ble_eq_true rfl) ⟨Nat.le_of_ble_eq_true rfl, Nat.le_of_ble_eq_true rfl⟩ ⟨Nat.le_of_ble_eq_true rfl, Nat.le_of_ble_eq_true rfl⟩ ?_
      exact V.sub [0] rfl (J20 (σ10) h)
  · exact V.sub [0] rfl (J20 (σ) h)
theorem hy_X6_isLeap : yX6_isLeap.cls ≠ "java/lang/invoke/MethodHandle" ∧ yX6_isLeap.cls ≠ "java/lang/invoke/VarHandle" ∧ (parseMethodDescriptor yX6_isLeap.desc).map (fun d => d.parameters.length) = some 2 := by decide +kernel
set_option maxHeartbeats 4000000 in
theorem w_X6_isLeap (l : Launch) (D : DD) (sz : Nat) {σ : St} {a0 : Nat} {x1 : Int} {x2 : Int} {w : Int} (h : f_X6_isLeap σ a0 x1 x2 = some w) : Mt l yX6_isLeap cX6_isLeap 5 (some FieldType.boolean) ({ frames := 0, cells := 0, slots := 0, locals := 0 } : Room) D sz σ [.ref a0, iv (x1), iv (x2)] (.returned (some (iv w))) (σ) 0 0 := by
  refine Mt.of (by decide +kernel) (Nat.le_of_ble_eq_true rfl) ?_
  intro Γ X hr hnl hini hnoh
  have X : Cx Γ cX6_isLeap "DayBoyModel" _ := X
  have hL : ∀ i, i < 5 → i < nLc Γ := fun i q => by rw [hnl]; exact q
  show V Γ σ 0 0 0 [(0, .ref (a0)), (1, iv (x1)), (2, iv (x2))] []
  unfold f_X6_isLeap at h
  obtain ⟨ho0, h⟩ := cO_some h
  refine r_iconst X dX6_isLeap_0 ?_
  refine r_istore_n X dX6_isLeap_1 rfl (hL 3 (by decide)) (lv' := [(3, iv (0)), (0, .ref (a0)), (1, iv (x1)), (2, iv (x2))]) rfl ?_
  refine r_iconst X dX6_isLeap_2 ?_
  refine r_istore X dX6_isLeap_3 (hL 4 (by decide)) (lv' := [(4, iv (0)), (3, iv (0)), (0, .ref (a0)), (1, iv (x1)), (2, iv (x2))]) rfl ?_
  have L5 : ∀ s : Int × Int, lp (fun s => f_X6_isLeap_b5 (σ) (a0) (x1) (x2) s.1 s.2) s = some w → V Γ (σ) 0 0 5 [(0, .ref (a0)), (1, iv (x1)), (2, iv (x2)), (3, iv (s.1)), (4, iv (s.2))] [] := by
    refine lp_rule (P := fun s : Int × Int => V Γ (σ) 0 0 5 [(0, .ref (a0)), (1, iv (x1)), (2, iv (x2)), (3, iv (s.1)), (4, iv (s.2))] []) ?_
    intro s z1 h ihb1 ihe1
    obtain ⟨v3_1, v4_1⟩ := s
    have h : f_X6_isLeap_b5 (σ) (a0) (x1) (x2) v3_1 v4_1 = some z1 := h
    unfold f_X6_isLeap_b5 at h
    show V Γ σ 0 0 5 [(0, .ref (a0)), (1, iv (x1)), (2, iv (x2)), (3, iv (v3_1)), (4, iv (v4_1))] []
    refine r_iload X 4 dX6_isLeap_5 rfl ?_
    refine r_aload_n X 0 dX6_isLeap_7 rfl rfl ?_
    refine r_getA (kf := 7) X ho0.1 rfl (by decide) (by decide) (Or.inl q1248) dX6_isLeap_8 ?_
    refine r_iload_n X 1 dX6_isLeap_11 rfl rfl ?_
    refine r_iald X ho0.1 (ho0.2 7 (by decide)) rfl rfl rfl (by decide) dX6_isLeap_12 h (fun h => ?_)
    refine r_icmp_ge (tgt := 56) X dX6_isLeap_13 (by decide) h (fun c1 h => ?_) (fun c1 h => ?_)
    · refine r_iload_n X 2 dX6_isLeap_16 rfl rfl ?_
      refine r_aload_n X 0 dX6_isLeap_17 rfl rfl ?_
      refine r_getA (kf := 8) X ho0.1 rfl (by decide) (by decide) (Or.inl q1249) dX6_isLeap_18 ?_
      refine r_bipush X dX6_isLeap_21 (by decide) ?_
      refine r_iload_n X 1 dX6_isLeap_23 rfl rfl ?_
      refine r_imul X dX6_isLeap_24 ?_
      refine r_iload X 4 dX6_isLeap_25 rfl ?_
      refine r_iadd X dX6_isLeap_27 ?_
      refine r_iald X ho0.1 (ho0.2 8 (by decide)) rfl rfl rfl (by decide) dX6_isLeap_28 h (fun h => ?_)
      obtain ⟨⟨c2, c3, c4⟩, h⟩ := ck_some h
      refine r_irem X dX6_isLeap_29 c2 c3 c4 ?_
      refine r_if_ne (tgt := 48) X dX6_isLeap_30 (by decide) h (fun c5 h => ?_) (fun c5 h => ?_)
      · refine r_aload_n X 0 dX6_isLeap_33 rfl rfl ?_
        refine r_getA (kf := 9) X ho0.1 rfl (by decide) (by decide) (Or.inl q1250) dX6_isLeap_34 ?_
        refine r_bipush X dX6_isLeap_37 (by decide) ?_
        refine r_iload_n X 1 dX6_isLeap_39 rfl rfl ?_
        refine r_imul X dX6_isLeap_40 ?_
        refine r_iload X 4 dX6_isLeap_41 rfl ?_
        refine r_iadd X dX6_isLeap_43 ?_
        refine r_zald X ho0.1 (ho0.2 9 (by decide)) rfl rfl rfl (by decide) dX6_isLeap_44 h (fun h => ?_)
        refine r_goto (tgt := 49) X dX6_isLeap_45 (by decide) ?_
        refine r_istore_n X dX6_isLeap_49 rfl (hL 3 (by decide)) (lv' := [(3, iv ((gI (σ) (a0) 9 (((8 * x1) + v4_1))))), (0, .ref (a0)), (1, iv (x1)), (2, iv (x2)), (4, iv (v4_1))]) rfl ?_
        refine r_iinc X 4 dX6_isLeap_50 rfl (hL 4 (by decide)) (lv' := [(4, iv ((v4_1 + 1))), (3, iv ((gI (σ) (a0) 9 (((8 * x1) + v4_1))))), (0, .ref (a0)), (1, iv (x1)), (2, iv (x2))]) rfl ?_
        refine r_goto (tgt := 5) X dX6_isLeap_53 (by decide) ?_
        exact V.sub [2, 3, 4, 1, 0] rfl (ihb1 _ (Option.some.inj h).symm)
      · refine r_iload_n X 3 dX6_isLeap_48 rfl rfl ?_
        refine r_istore_n X dX6_isLeap_49 rfl (hL 3 (by decide)) (lv' := [(3, iv (v3_1)), (0, .ref (a0)), (1, iv (x1)), (2, iv (x2)), (4, iv (v4_1))]) rfl ?_
        refine r_iinc X 4 dX6_isLeap_50 rfl (hL 4 (by decide)) (lv' := [(4, iv ((v4_1 + 1))), (3, iv (v3_1)), (0, .ref (a0)), (1, iv (x1)), (2, iv (x2))]) rfl ?_
        refine r_goto (tgt := 5) X dX6_isLeap_53 (by decide) ?_
        exact V.sub [2, 3, 4, 1, 0] rfl (ihb1 _ (Option.some.inj h).symm)
    · have h := ex_some h ihe1
      refine r_iload_n X 3 dX6_isLeap_56 rfl rfl ?_
      obtain ⟨c6, h⟩ := ck_some h
      cases h
      exact r_zret X hr (c6) dX6_isLeap_57
  exact V.sub [2, 3, 4, 1, 0] rfl (L5 (0, 0) h)
theorem hy_X6_layOut : yX6_layOut.cls ≠ "java/lang/invoke/MethodHandle" ∧ yX6_layOut.cls ≠ "java/lang/invoke/VarHandle" ∧ (parseMethodDescriptor yX6_layOut.desc).map (fun d => d.parameters.length) = some 1 := by decide +kernel
set_option maxHeartbeats 4000000 in
theorem w_X6_layOut (l : Launch) (D : DD) (sz : Nat) {σ : St} {a0 : Nat} {x1 : Int} {w : St} (h : f_X6_layOut σ a0 x1 = some w) : Mt l yX6_layOut cX6_layOut 4 none ({ frames := 1, cells := 0, slots := 0, locals := 17 } : Room) D sz σ [.ref a0, iv (x1)] (.returned none) (w) 0 0 := by
  refine Mt.of (by decide +kernel) (Nat.le_of_ble_eq_true rfl) ?_
  intro Γ X hr hnl hini hnoh
  have X : Cx Γ cX6_layOut "DayBoyModel" _ := X
  have hL : ∀ i, i < 4 → i < nLc Γ := fun i q => by rw [hnl]; exact q
  show V Γ σ 0 0 0 [(0, .ref (a0)), (1, iv (x1))] []
  unfold f_X6_layOut at h
  obtain ⟨ho0, h⟩ := cO_some h
  refine r_iconst X dX6_layOut_0 ?_
  refine r_istore_n X dX6_layOut_1 rfl (hL 2 (by decide)) (lv' := [(2, iv (0)), (0, .ref (a0)), (1, iv (x1))]) rfl ?_
  refine r_iconst X dX6_layOut_2 ?_
  refine r_istore_n X dX6_layOut_3 rfl (hL 3 (by decide)) (lv' := [(3, iv (1)), (2, iv (0)), (0, .ref (a0)), (1, iv (x1))]) rfl ?_
  have L4 : ∀ s : Int × Int × St, lp (fun s => f_X6_layOut_b4 (a0) (x1) s.1 s.2.1 s.2.2) s = some w → V Γ (s.2.2) 0 0 4 [(0, .ref (a0)), (1, iv (x1)), (2, iv (s.1)), (3, iv (s.2.1))] [] := by
    refine lp_rule (P := fun s : Int × Int × St => V Γ (s.2.2) 0 0 4 [(0, .ref (a0)), (1, iv (x1)), (2, iv (s.1)), (3, iv (s.2.1))] []) ?_
    intro s z1 h ihb1 ihe1
    obtain ⟨v2_1, v3_1, σ_1⟩ := s
    have h : f_X6_layOut_b4 (a0) (x1) v2_1 v3_1 σ_1 = some z1 := h
    unfold f_X6_layOut_b4 at h
    show V Γ σ_1 0 0 4 [(0, .ref (a0)), (1, iv (x1)), (2, iv (v2_1)), (3, iv (v3_1))] []
    refine r_iload_n X 3 dX6_layOut_4 rfl rfl ?_
    refine r_sipush X dX6_layOut_5 (by decide) ?_
    refine r_icmp_ge (tgt := 51) X dX6_layOut_8 (by decide) h (fun c1 h => ?_) (fun c1 h => ?_)
    · refine r_aload_n X 0 dX6_layOut_11 rfl rfl ?_
      obtain ⟨ho2, h⟩ := cO_some h
      refine r_getA (kf := 13) X ho2.1 rfl (by decide) (by decide) (Or.inl q1254) dX6_layOut_12 ?_
      refine r_sipush X dX6_layOut_15 (by decide) ?_
      refine r_iload_n X 1 dX6_layOut_18 rfl rfl ?_
      refine r_imul X dX6_layOut_19 ?_
      refine r_iload_n X 3 dX6_layOut_20 rfl rfl ?_
      refine r_iadd X dX6_layOut_21 ?_
      refine r_iload_n X 2 dX6_layOut_22 rfl rfl ?_
      refine r_iast X ho2.1 (ho2.2 13 (by decide)) rfl rfl rfl (by decide) dX6_layOut_23 h (fun h => ?_)
      refine r_let h (fun σ3 eσ3 h => ?_)
      refine r_iload_n X 2 dX6_layOut_24 rfl rfl ?_
      refine r_aload_n X 0 dX6_layOut_25 rfl rfl ?_
      refine r_iload_n X 1 dX6_layOut_26 rfl rfl ?_
      refine r_iload_n X 3 dX6_layOut_27 rfl rfl ?_
      have hk5 : oc σ3 (a0) 5 := by rw [eσ3]; exact ho2
      obtain ⟨r6, h4, h⟩ := bd_some h
      refine r_cV (Wd := 1) X (fun l D sz => w_X6_isLeap l D sz h4) hk5.1 rfl q1526 qs55 q1524 q109 q1527 hy_X6_isLeap rfl dX6_layOut_28 rfl rfl (Nat.le_of_ble_eq_true rfl) ⟨Nat.le_of_ble_eq_true rfl, Nat.le_of_ble_eq_true rfl⟩ ⟨Nat.le_of_ble_eq_true rfl, Nat.le_of_ble_eq_true rfl⟩ ?_
      refine r_if_eq (tgt := 40) X dX6_layOut_31 (by decide) h (fun c7 h => ?_) (fun c7 h => ?_)
      · refine r_sipush X dX6_layOut_40 (by decide) ?_
        refine r_iadd X dX6_layOut_43 ?_
        refine r_istore_n X dX6_layOut_44 rfl (hL 2 (by decide)) (lv' := [(2, iv ((v2_1 + 365))), (0, .ref (a0)), (1, iv (x1)), (3, iv (v3_1))]) rfl ?_
        refine r_iinc X 3 dX6_layOut_45 rfl (hL 3 (by decide)) (lv' := [(3, iv ((v3_1 + 1))), (2, iv ((v2_1 + 365))), (0, .ref (a0)), (1, iv (x1))]) rfl ?_
        refine r_goto (tgt := 4) X dX6_layOut_48 (by decide) ?_
        exact V.sub [2, 3, 1, 0] rfl (ihb1 _ (Option.some.inj h).symm)
      · refine r_sipush X dX6_layOut_34 (by decide) ?_
        refine r_goto (tgt := 43) X dX6_layOut_37 (by decide) ?_
        refine r_iadd X dX6_layOut_43 ?_
        refine r_istore_n X dX6_layOut_44 rfl (hL 2 (by decide)) (lv' := [(2, iv ((v2_1 + 366))), (0, .ref (a0)), (1, iv (x1)), (3, iv (v3_1))]) rfl ?_
        refine r_iinc X 3 dX6_layOut_45 rfl (hL 3 (by decide)) (lv' := [(3, iv ((v3_1 + 1))), (2, iv ((v2_1 + 366))), (0, .ref (a0)), (1, iv (x1))]) rfl ?_
        refine r_goto (tgt := 4) X dX6_layOut_48 (by decide) ?_
        exact V.sub [2, 3, 1, 0] rfl (ihb1 _ (Option.some.inj h).symm)
    · have h := ex_some h ihe1
      cases h
      exact r_vret X hr dX6_layOut_51
  exact V.sub [2, 3, 1, 0] rfl (L4 (0, 1, σ) h)
theorem hy_X6_readLeaps : yX6_readLeaps.cls ≠ "java/lang/invoke/MethodHandle" ∧ yX6_readLeaps.cls ≠ "java/lang/invoke/VarHandle" ∧ (parseMethodDescriptor yX6_readLeaps.desc).map (fun d => d.parameters.length) = some 1 := by decide +kernel
set_option maxHeartbeats 4000000 in
theorem w_X6_readLeaps (l : Launch) (D : DD) (sz : Nat) {σ : St} {a0 : Nat} {x1 : Int} {w : St} (h : f_X6_readLeaps σ a0 x1 = some w) : Mt l yX6_readLeaps cX6_readLeaps 5 none ({ frames := 4, cells := 0, slots := 0, locals := 55 } : Room) D sz σ [.ref a0, iv (x1)] (.returned none) (w) 0 0 := by
  refine Mt.of (by decide +kernel) (Nat.le_of_ble_eq_true rfl) ?_
  intro Γ X hr hnl hini hnoh
  have X : Cx Γ cX6_readLeaps "DayBoyModel" _ := X
  have hL : ∀ i, i < 5 → i < nLc Γ := fun i q => by rw [hnl]; exact q
  show V Γ σ 0 0 0 [(0, .ref (a0)), (1, iv (x1))] []
  unfold f_X6_readLeaps at h
  obtain ⟨ho0, h⟩ := cO_some h
  have J159 : ∀ (σ_j159 : St), f_X6_readLeaps_j159 (a0) (x1) σ_j159 = some w → V Γ σ_j159 0 0 159 [(0, .ref (a0)), (1, iv (x1))] [] := by
    intro σ_j159 h
    unfold f_X6_readLeaps_j159 at h
    refine r_aload_n X 0 dX6_readLeaps_159 rfl rfl ?_
    obtain ⟨ho1, h⟩ := cO_some h
    refine r_getI (kf := 4) X ho1.1 rfl (by decide) rfl (Or.inl q1245) dX6_readLeaps_160 ?_
    refine r_iconst X dX6_readLeaps_163 ?_
    refine r_icmp_ne (tgt := 172) X dX6_readLeaps_164 (by decide) h (fun c2 h => ?_) (fun c2 h => ?_)
    · refine r_aload_n X 0 dX6_readLeaps_167 rfl rfl ?_
      refine r_iload_n X 1 dX6_readLeaps_168 rfl rfl ?_
      obtain ⟨σ4, h3, h⟩ := bd_some h
      refine r_cV (Wd := 0) X (fun l D sz => w_X6_layOut l D sz h3) ho1.1 rfl q1522 qs54 q1520 q109 q1523 hy_X6_layOut rfl dX6_readLeaps_169 rfl rfl (Nat.le_of_ble_eq_true rfl) ⟨Nat.le_of_ble_eq_true rfl, Nat.le_of_ble_eq_true rfl⟩ ⟨Nat.le_of_ble_eq_true rfl, Nat.le_of_ble_eq_true rfl⟩ ?_
      cases h
      exact r_vret X hr dX6_readLeaps_172
    · cases h
      exact r_vret X hr dX6_readLeaps_172
  refine r_aload_n X 0 dX6_readLeaps_0 rfl rfl ?_
  refine r_getA (kf := 7) X ho0.1 rfl (by decide) (by decide) (Or.inl q1248) dX6_readLeaps_1 ?_
  refine r_iload_n X 1 dX6_readLeaps_4 rfl rfl ?_
  refine r_iconst X dX6_readLeaps_5 ?_
  refine r_iast X ho0.1 (ho0.2 7 (by decide)) rfl rfl rfl (by decide) dX6_readLeaps_6 h (fun h => ?_)
  refine r_let h (fun σ5 eσ5 h => ?_)
  refine r_iconst X dX6_readLeaps_7 ?_
  refine r_istore_n X dX6_readLeaps_8 rfl (hL 2 (by decide)) (lv' := [(2, iv (1)), (0, .ref (a0)), (1, iv (x1))]) rfl ?_
  have L9 : ∀ s : Int × St, lp (fun s => f_X6_readLeaps_b9 (a0) (x1) s.1 s.2) s = some w → V Γ (s.2) 0 0 9 [(0, .ref (a0)), (1, iv (x1)), (2, iv (s.1))] [] := by
    refine lp_rule (P := fun s : Int × St => V Γ (s.2) 0 0 9 [(0, .ref (a0)), (1, iv (x1)), (2, iv (s.1))] []) ?_
    intro s z1 h ihb1 ihe1
    obtain ⟨v2_1, σ_1⟩ := s
    have h : f_X6_readLeaps_b9 (a0) (x1) v2_1 σ_1 = some z1 := h
    unfold f_X6_readLeaps_b9 at h
    show V Γ σ_1 0 0 9 [(0, .ref (a0)), (1, iv (x1)), (2, iv (v2_1))] []
    have J137 : ∀ (t0_j137 : Int) (t1_j137 : Int) (σ_j137 : St), f_X6_readLeaps_j137 (a0) (x1) t0_j137 t1_j137 σ_j137 = some z1 → V Γ σ_j137 0 0 137 [(0, .ref (a0)), (1, iv (x1))] [iv (t0_j137), iv (t1_j137), va_rf (aR (σ_j137) (a0) 9)] := by
      intro t0_j137 t1_j137 σ_j137 h
      unfold f_X6_readLeaps_j137 at h
      obtain ⟨ho6, h⟩ := cO_some h
      refine r_zast X ho6.1 (ho6.2 9 (by decide)) rfl rfl rfl (by decide) dX6_readLeaps_137 h (fun h => ?_)
      refine r_let h (fun σ7 eσ7 h => ?_)
      refine r_aload_n X 0 dX6_readLeaps_138 rfl rfl ?_
      have hk8 : oc σ7 (a0) 5 := by rw [eσ7]; exact ho6
      refine r_getA (kf := 7) X hk8.1 rfl (by decide) (by decide) (Or.inl q1248) dX6_readLeaps_139 ?_
      refine r_iload_n X 1 dX6_readLeaps_142 rfl rfl ?_
      refine r_dup2 X dX6_readLeaps_143 rfl (cat_rf _) ?_
      refine r_iald X hk8.1 (hk8.2 7 (by decide)) rfl rfl rfl (by decide) dX6_readLeaps_144 h (fun h => ?_)
      refine r_iconst X dX6_readLeaps_145 ?_
      refine r_iadd X dX6_readLeaps_146 ?_
      refine r_iast X hk8.1 (hk8.2 7 (by decide)) rfl rfl rfl (by decide) dX6_readLeaps_147 h (fun h => ?_)
      refine r_let h (fun σ9 eσ9 h => ?_)
      refine r_aload_n X 0 dX6_readLeaps_148 rfl rfl ?_
      have hk11 : oc σ9 (a0) 5 := by rw [eσ9]; exact hk8
      obtain ⟨r12, σ13, h10, h⟩ := bd2_some h
      refine r_cV (Wd := 0) X (fun l D sz => w_X6_look l D sz h10) hk11.1 rfl q1488 qs47 q1486 q109 q1489 hy_X6_look rfl dX6_readLeaps_149 rfl rfl (Nat.le_of_ble_eq_true rfl) ⟨Nat.le_of_ble_eq_true rfl, Nat.le_of_ble_eq_true rfl⟩ ⟨Nat.le_of_ble_eq_true rfl, Nat.le_of_ble_eq_true rfl⟩ ?_
      obtain ⟨r15, h14, h⟩ := bd_some h
      refine r_cS (Wd := 0) X (fun l D sz => w_X6_isDigit l D sz h14) q1495 q1494 q109 q1496 hy_X6_isDigit rfl dX6_readLeaps_152 rfl rfl (Nat.le_of_ble_eq_true rfl) ⟨Nat.le_of_ble_eq_true rfl, Nat.le_of_ble_eq_true rfl⟩ ⟨Nat.le_of_ble_eq_true rfl, Nat.le_of_ble_eq_true rfl⟩ ?_
      refine r_istore_n X dX6_readLeaps_155 rfl (hL 2 (by decide)) (lv' := [(2, iv (r15)), (0, .ref (a0)), (1, iv (x1))]) rfl ?_
      refine r_goto (tgt := 9) X dX6_readLeaps_156 (by decide) ?_
      exact V.sub [1, 2, 0] rfl (ihb1 _ (Option.some.inj h).symm)
    have J83 : ∀ (v3_j83 : Int) (v4_j83 : Int) (σ_j83 : St), f_X6_readLeaps_j83 (a0) (x1) v3_j83 v4_j83 σ_j83 = some z1 → V Γ σ_j83 0 0 83 [(0, .ref (a0)), (1, iv (x1)), (3, iv (v3_j83)), (4, iv (v4_j83))] [] := by
      intro v3_j83 v4_j83 σ_j83 h
      unfold f_X6_readLeaps_j83 at h
      refine r_aload_n X 0 dX6_readLeaps_83 rfl rfl ?_
      refine r_dup X dX6_readLeaps_84 rfl ?_
      obtain ⟨ho16, h⟩ := cO_some h
      refine r_getI (kf := 3) X ho16.1 rfl (by decide) rfl (Or.inl q1244) dX6_readLeaps_85 ?_
      refine r_iconst X dX6_readLeaps_88 ?_
      refine r_iadd X dX6_readLeaps_89 ?_
      refine r_putI (kf := 3) X ho16.1 rfl (by decide) rfl rfl (Or.inl q1244) dX6_readLeaps_90 rfl ?_
      refine r_let h (fun σ17 eσ17 h => ?_)
      refine r_aload_n X 0 dX6_readLeaps_93 rfl rfl ?_
      have hk18 : oc σ17 (a0) 5 := by rw [eσ17]; exact ho16
      refine r_getA (kf := 8) X hk18.1 rfl (by decide) (by decide) (Or.inl q1249) dX6_readLeaps_94 ?_
      refine r_bipush X dX6_readLeaps_97 (by decide) ?_
      refine r_iload_n X 1 dX6_readLeaps_99 rfl rfl ?_
      refine r_imul X dX6_readLeaps_100 ?_
      refine r_aload_n X 0 dX6_readLeaps_101 rfl rfl ?_
      refine r_getA (kf := 7) X hk18.1 rfl (by decide) (by decide) (Or.inl q1248) dX6_readLeaps_102 ?_
      refine r_iload_n X 1 dX6_readLeaps_105 rfl rfl ?_
      refine r_iald X hk18.1 (hk18.2 7 (by decide)) rfl rfl rfl (by decide) dX6_readLeaps_106 h (fun h => ?_)
      refine r_iadd X dX6_readLeaps_107 ?_
      refine r_iload_n X 2 dX6_readLeaps_108 rfl rfl ?_
      refine r_iast X hk18.1 (hk18.2 8 (by decide)) rfl rfl rfl (by decide) dX6_readLeaps_109 h (fun h => ?_)
      refine r_let h (fun σ19 eσ19 h => ?_)
      refine r_aload_n X 0 dX6_readLeaps_110 rfl rfl ?_
      have hk20 : oc σ19 (a0) 5 := by rw [eσ19]; exact hk18
      refine r_getA (kf := 9) X hk20.1 rfl (by decide) (by decide) (Or.inl q1250) dX6_readLeaps_111 ?_
      refine r_bipush X dX6_readLeaps_114 (by decide) ?_
      refine r_iload_n X 1 dX6_readLeaps_116 rfl rfl ?_
      refine r_imul X dX6_readLeaps_117 ?_
      refine r_aload_n X 0 dX6_readLeaps_118 rfl rfl ?_
      refine r_getA (kf := 7) X hk20.1 rfl (by decide) (by decide) (Or.inl q1248) dX6_readLeaps_119 ?_
      refine r_iload_n X 1 dX6_readLeaps_122 rfl rfl ?_
      refine r_iald X hk20.1 (hk20.2 7 (by decide)) rfl rfl rfl (by decide) dX6_readLeaps_123 h (fun h => ?_)
      refine r_iadd X dX6_readLeaps_124 ?_
      refine r_iload X 3 dX6_readLeaps_125 rfl ?_
      refine r_bipush X dX6_readLeaps_127 (by decide) ?_
      refine r_icmp_ne (tgt := 136) X dX6_readLeaps_129 (by decide) h (fun c21 h => ?_) (fun c21 h => ?_)
      · refine r_iconst X dX6_readLeaps_132 ?_
        refine r_goto (tgt := 137) X dX6_readLeaps_133 (by decide) ?_
        exact V.sub [0, 1] rfl (J137 (1) (((8 * x1) + (gI (σ19) (a0) 7 (x1)))) (σ19) h)
      · refine r_iconst X dX6_readLeaps_136 ?_
        exact V.sub [0, 1] rfl (J137 (0) (((8 * x1) + (gI (σ19) (a0) 7 (x1)))) (σ19) h)
    have J62 : ∀ (v3_j62 : Int) (t0_j62 : Int) (σ_j62 : St), f_X6_readLeaps_j62 (a0) (x1) v3_j62 t0_j62 σ_j62 = some z1 → V Γ σ_j62 0 0 62 [(0, .ref (a0)), (1, iv (x1)), (3, iv (v3_j62))] [iv (t0_j62)] := by
      intro v3_j62 t0_j62 σ_j62 h
      unfold f_X6_readLeaps_j62 at h
      refine r_istore X dX6_readLeaps_62 (hL 4 (by decide)) (lv' := [(4, iv (t0_j62)), (0, .ref (a0)), (1, iv (x1)), (3, iv (v3_j62))]) rfl ?_
      refine r_iload X 0 dX6_readLeaps_64 rfl ?_
      refine r_bipush X dX6_readLeaps_66 (by decide) ?_
      refine r_icmp_eq (tgt := 83) X dX6_readLeaps_68 (by decide) h (fun c22 h => ?_) (fun c22 h => ?_)
      · exact V.sub [1, 2, 3, 0] rfl (J83 (v3_j62) (t0_j62) (σ_j62) h)
      · refine r_iload X 0 dX6_readLeaps_71 rfl ?_
        refine r_bipush X dX6_readLeaps_73 (by decide) ?_
        refine r_icmp_eq (tgt := 83) X dX6_readLeaps_75 (by decide) h (fun c23 h => ?_) (fun c23 h => ?_)
        · exact V.sub [1, 2, 3, 0] rfl (J83 (v3_j62) (t0_j62) (σ_j62) h)
        · have h := ex_some h ihe1
          refine r_aload_n X 1 dX6_readLeaps_78 rfl rfl ?_
          obtain ⟨ho25, h⟩ := cO_some h
          obtain ⟨σ26, h24, h⟩ := bd_some h
          refine r_cV (Wd := 0) X (fun l D sz => w_X6_bad l D sz h24) ho25.1 rfl q1499 qs49 q1497 q109 q1500 hy_X6_bad rfl dX6_readLeaps_79 rfl rfl (Nat.le_of_ble_eq_true rfl) ⟨Nat.le_of_ble_eq_true rfl, Nat.le_of_ble_eq_true rfl⟩ ⟨Nat.le_of_ble_eq_true rfl, Nat.le_of_ble_eq_true rfl⟩ ?_
          cases h
          exact r_vret X hr dX6_readLeaps_82
    refine r_iload_n X 2 dX6_readLeaps_9 rfl rfl ?_
    refine r_if_eq (tgt := 159) X dX6_readLeaps_10 (by decide) h (fun c27 h => ?_) (fun c27 h => ?_)
    · have h := ex_some h ihe1
      exact V.sub [0, 1] rfl (J159 (σ_1) h)
    · refine r_aload_n X 0 dX6_readLeaps_13 rfl rfl ?_
      obtain ⟨ho28, h⟩ := cO_some h
      refine r_getI (kf := 4) X ho28.1 rfl (by decide) rfl (Or.inl q1245) dX6_readLeaps_14 ?_
      refine r_iconst X dX6_readLeaps_17 ?_
      refine r_icmp_ne (tgt := 159) X dX6_readLeaps_18 (by decide) h (fun c29 h => ?_) (fun c29 h => ?_)
      · refine r_aload_n X 0 dX6_readLeaps_21 rfl rfl ?_
        refine r_getA (kf := 7) X ho28.1 rfl (by decide) (by decide) (Or.inl q1248) dX6_readLeaps_22 ?_
        refine r_iload_n X 1 dX6_readLeaps_25 rfl rfl ?_
        refine r_iald X ho28.1 (ho28.2 7 (by decide)) rfl rfl rfl (by decide) dX6_readLeaps_26 h (fun h => ?_)
        refine r_bipush X dX6_readLeaps_27 (by decide) ?_
        refine r_icmp_ne (tgt := 37) X dX6_readLeaps_29 (by decide) h (fun c30 h => ?_) (fun c30 h => ?_)
        · have h := ex_some h ihe1
          refine r_aload_n X 0 dX6_readLeaps_32 rfl rfl ?_
          obtain ⟨σ32, h31, h⟩ := bd_some h
          refine r_cV (Wd := 0) X (fun l D sz => w_X6_bad l D sz h31) ho28.1 rfl q1499 qs49 q1497 q109 q1500 hy_X6_bad rfl dX6_readLeaps_33 rfl rfl (Nat.le_of_ble_eq_true rfl) ⟨Nat.le_of_ble_eq_true rfl, Nat.le_of_ble_eq_true rfl⟩ ⟨Nat.le_of_ble_eq_true rfl, Nat.le_of_ble_eq_true rfl⟩ ?_
          cases h
          exact r_vret X hr dX6_readLeaps_36
        · refine r_aload_n X 0 dX6_readLeaps_37 rfl rfl ?_
          refine r_iconst X dX6_readLeaps_38 ?_
          refine r_sipush X dX6_readLeaps_39 (by decide) ?_
          obtain ⟨r34, σ35, h33, h⟩ := bd2_some h
          refine r_cV (Wd := 0) X (fun l D sz => w_X6_plain l D sz h33) ho28.1 rfl q1480 qs45 q1478 q109 q1481 hy_X6_plain rfl dX6_readLeaps_42 rfl rfl (Nat.le_of_ble_eq_true rfl) ⟨Nat.le_of_ble_eq_true rfl, Nat.le_of_ble_eq_true rfl⟩ ⟨Nat.le_of_ble_eq_true rfl, Nat.le_of_ble_eq_true rfl⟩ ?_
          refine r_istore_n X dX6_readLeaps_45 rfl (hL 3 (by decide)) (lv' := [(3, iv (r34)), (0, .ref (a0)), (1, iv (x1)), (2, iv (v2_1))]) rfl ?_
          refine r_aload_n X 1 dX6_readLeaps_46 rfl rfl ?_
          obtain ⟨ho36, h⟩ := cO_some h
          refine r_getI (kf := 4) X ho36.1 rfl (by decide) rfl (Or.inl q1245) dX6_readLeaps_47 ?_
          refine r_iconst X dX6_readLeaps_50 ?_
          refine r_icmp_ne (tgt := 61) X dX6_readLeaps_51 (by decide) h (fun c37 h => ?_) (fun c37 h => ?_)
          · refine r_aload_n X 1 dX6_readLeaps_54 rfl rfl ?_
            obtain ⟨r39, σ40, h38, h⟩ := bd2_some h
            refine r_cV (Wd := 0) X (fun l D sz => w_X6_look l D sz h38) ho36.1 rfl q1488 qs47 q1486 q109 q1489 hy_X6_look rfl dX6_readLeaps_55 rfl rfl (Nat.le_of_ble_eq_true rfl) ⟨Nat.le_of_ble_eq_true rfl, Nat.le_of_ble_eq_true rfl⟩ ⟨Nat.le_of_ble_eq_true rfl, Nat.le_of_ble_eq_true rfl⟩ ?_
            refine r_goto (tgt := 62) X dX6_readLeaps_58 (by decide) ?_
            exact V.sub [1, 2, 0] rfl (J62 (r34) (r39) (σ40) h)
          · refine r_iconst X dX6_readLeaps_61 ?_
            exact V.sub [1, 2, 0] rfl (J62 (r34) ((-1)) (σ35) h)
      · have h := ex_some h ihe1
        exact V.sub [0, 1] rfl (J159 (σ_1) h)
  exact V.sub [1, 2, 0] rfl (L9 (1, σ5) h)
theorem hy_X6_code : yX6_code.cls ≠ "java/lang/invoke/MethodHandle" ∧ yX6_code.cls ≠ "java/lang/invoke/VarHandle" ∧ (parseMethodDescriptor yX6_code.desc).map (fun d => d.parameters.length) = some 3 := by decide +kernel
set_option maxHeartbeats 4000000 in
theorem w_X6_code (l : Launch) (D : DD) (sz : Nat) {σ : St} {x0 : Int} {x1 : Int} {x2 : Int} {w : Int} (h : f_X6_code σ x0 x1 x2 = some w) : Mt l yX6_code cX6_code 3 (some FieldType.int) ({ frames := 0, cells := 0, slots := 0, locals := 0 } : Room) D sz σ [iv (x0), iv (x1), iv (x2)] (.returned (some (iv w))) (σ) 0 0 := by
  refine Mt.of (by decide +kernel) (Nat.le_of_ble_eq_true rfl) ?_
  intro Γ X hr hnl hini hnoh
  have X : Cx Γ cX6_code "DayBoyModel" _ := X
  have hL : ∀ i, i < 3 → i < nLc Γ := fun i q => by rw [hnl]; exact q
  show V Γ σ 0 0 0 [(0, iv (x0)), (1, iv (x1)), (2, iv (x2))] []
  unfold f_X6_code at h
  refine r_sipush X dX6_code_0 (by decide) ?_
  refine r_iload_n X 0 dX6_code_3 rfl rfl ?_
  refine r_imul X dX6_code_4 ?_
  refine r_bipush X dX6_code_5 (by decide) ?_
  refine r_iload_n X 1 dX6_code_7 rfl rfl ?_
  refine r_imul X dX6_code_8 ?_
  refine r_iadd X dX6_code_9 ?_
  refine r_iload_n X 2 dX6_code_10 rfl rfl ?_
  refine r_iadd X dX6_code_11 ?_
  cases h
  exact r_iret X hr dX6_code_12
theorem hy_X6_daysOf : yX6_daysOf.cls ≠ "java/lang/invoke/MethodHandle" ∧ yX6_daysOf.cls ≠ "java/lang/invoke/VarHandle" ∧ (parseMethodDescriptor yX6_daysOf.desc).map (fun d => d.parameters.length) = some 3 := by decide +kernel
set_option maxHeartbeats 4000000 in
theorem w_X6_daysOf (l : Launch) (D : DD) (sz : Nat) {σ : St} {a0 : Nat} {x1 : Int} {x2 : Int} {x3 : Int} {w : Int} (h : f_X6_daysOf σ a0 x1 x2 x3 = some w) : Mt l yX6_daysOf cX6_daysOf 4 (some FieldType.int) ({ frames := 1, cells := 0, slots := 0, locals := 16 } : Room) D sz σ [.ref a0, iv (x1), iv (x2), iv (x3)] (.returned (some (iv w))) (σ) 0 0 := by
  refine Mt.of (by decide +kernel) (Nat.le_of_ble_eq_true rfl) ?_
  intro Γ X hr hnl hini hnoh
  have X : Cx Γ cX6_daysOf "DayBoyModel" _ := X
  have hL : ∀ i, i < 4 → i < nLc Γ := fun i q => by rw [hnl]; exact q
  show V Γ σ 0 0 0 [(0, .ref (a0)), (1, iv (x1)), (2, iv (x2)), (3, iv (x3))] []
  unfold f_X6_daysOf at h
  obtain ⟨ho0, h⟩ := cO_some h
  refine r_iload_n X 3 dX6_daysOf_0 rfl rfl ?_
  refine r_iconst X dX6_daysOf_1 ?_
  refine r_icmp_ne (tgt := 24) X dX6_daysOf_2 (by decide) h (fun c1 h => ?_) (fun c1 h => ?_)
  · refine r_aload_n X 0 dX6_daysOf_5 rfl rfl ?_
    refine r_iload_n X 1 dX6_daysOf_6 rfl rfl ?_
    refine r_iload_n X 2 dX6_daysOf_7 rfl rfl ?_
    obtain ⟨r3, h2, h⟩ := bd_some h
    refine r_cV (Wd := 0) X (fun l D sz => w_X6_isLeap l D sz h2) ho0.1 rfl q1526 qs55 q1524 q109 q1527 hy_X6_isLeap rfl dX6_daysOf_8 rfl rfl (Nat.le_of_ble_eq_true rfl) ⟨Nat.le_of_ble_eq_true rfl, Nat.le_of_ble_eq_true rfl⟩ ⟨Nat.le_of_ble_eq_true rfl, Nat.le_of_ble_eq_true rfl⟩ ?_
    refine r_if_eq (tgt := 19) X dX6_daysOf_11 (by decide) h (fun c4 h => ?_) (fun c4 h => ?_)
    · refine r_bipush X dX6_daysOf_19 (by decide) ?_
      refine r_goto (tgt := 54) X dX6_daysOf_21 (by decide) ?_
      cases h
      exact r_iret X hr dX6_daysOf_54
    · refine r_bipush X dX6_daysOf_14 (by decide) ?_
      refine r_goto (tgt := 54) X dX6_daysOf_16 (by decide) ?_
      cases h
      exact r_iret X hr dX6_daysOf_54
  · refine r_iload_n X 3 dX6_daysOf_24 rfl rfl ?_
    refine r_iconst X dX6_daysOf_25 ?_
    refine r_icmp_eq (tgt := 47) X dX6_daysOf_26 (by decide) h (fun c5 h => ?_) (fun c5 h => ?_)
    · refine r_bipush X dX6_daysOf_47 (by decide) ?_
      refine r_goto (tgt := 54) X dX6_daysOf_49 (by decide) ?_
      cases h
      exact r_iret X hr dX6_daysOf_54
    · refine r_iload_n X 3 dX6_daysOf_29 rfl rfl ?_
      refine r_bipush X dX6_daysOf_30 (by decide) ?_
      refine r_icmp_eq (tgt := 47) X dX6_daysOf_32 (by decide) h (fun c6 h => ?_) (fun c6 h => ?_)
      · refine r_bipush X dX6_daysOf_47 (by decide) ?_
        refine r_goto (tgt := 54) X dX6_daysOf_49 (by decide) ?_
        cases h
        exact r_iret X hr dX6_daysOf_54
      · refine r_iload_n X 3 dX6_daysOf_35 rfl rfl ?_
        refine r_bipush X dX6_daysOf_36 (by decide) ?_
        refine r_icmp_eq (tgt := 47) X dX6_daysOf_38 (by decide) h (fun c7 h => ?_) (fun c7 h => ?_)
        · refine r_bipush X dX6_daysOf_47 (by decide) ?_
          refine r_goto (tgt := 54) X dX6_daysOf_49 (by decide) ?_
          cases h
          exact r_iret X hr dX6_daysOf_54
        · refine r_iload_n X 3 dX6_daysOf_41 rfl rfl ?_
          refine r_bipush X dX6_daysOf_42 (by decide) ?_
          refine r_icmp_ne (tgt := 52) X dX6_daysOf_44 (by decide) h (fun c8 h => ?_) (fun c8 h => ?_)
          · refine r_bipush X dX6_daysOf_47 (by decide) ?_
            refine r_goto (tgt := 54) X dX6_daysOf_49 (by decide) ?_
            cases h
            exact r_iret X hr dX6_daysOf_54
          · refine r_bipush X dX6_daysOf_52 (by decide) ?_
            cases h
            exact r_iret X hr dX6_daysOf_54
theorem hy_X6_ordinal : yX6_ordinal.cls ≠ "java/lang/invoke/MethodHandle" ∧ yX6_ordinal.cls ≠ "java/lang/invoke/VarHandle" ∧ (parseMethodDescriptor yX6_ordinal.desc).map (fun d => d.parameters.length) = some 2 := by decide +kernel
set_option maxHeartbeats 4000000 in
theorem w_X6_ordinal (l : Launch) (D : DD) (sz : Nat) {σ : St} {a0 : Nat} {x1 : Int} {x2 : Int} {w : Int} (h : f_X6_ordinal σ a0 x1 x2 = some w) : Mt l yX6_ordinal cX6_ordinal 7 (some FieldType.int) ({ frames := 2, cells := 0, slots := 0, locals := 32 } : Room) D sz σ [.ref a0, iv (x1), iv (x2)] (.returned (some (iv w))) (σ) 0 0 := by
  refine Mt.of (by decide +kernel) (Nat.le_of_ble_eq_true rfl) ?_
  intro Γ X hr hnl hini hnoh
  have X : Cx Γ cX6_ordinal "DayBoyModel" _ := X
  have hL : ∀ i, i < 7 → i < nLc Γ := fun i q => by rw [hnl]; exact q
  show V Γ σ 0 0 0 [(0, .ref (a0)), (1, iv (x1)), (2, iv (x2))] []
  unfold f_X6_ordinal at h
  obtain ⟨ho0, h⟩ := cO_some h
  refine r_iload_n X 2 dX6_ordinal_0 rfl rfl ?_
  refine r_sipush X dX6_ordinal_1 (by decide) ?_
  obtain ⟨c1, h⟩ := ck_some h
  refine r_idiv X dX6_ordinal_4 c1 (by decide) (by decide) ?_
  refine r_istore_n X dX6_ordinal_5 rfl (hL 3 (by decide)) (lv' := [(3, iv ((Int.tdiv (x2) (10000)))), (0, .ref (a0)), (1, iv (x1)), (2, iv (x2))]) rfl ?_
  refine r_iload_n X 3 dX6_ordinal_6 rfl rfl ?_
  refine r_bipush X dX6_ordinal_7 (by decide) ?_
  obtain ⟨c2, h⟩ := ck_some h
  refine r_idiv X dX6_ordinal_9 c2 (by decide) (by decide) ?_
  refine r_bipush X dX6_ordinal_10 (by decide) ?_
  obtain ⟨c3, h⟩ := ck_some h
  refine r_irem X dX6_ordinal_12 c3 (by decide) (by decide) ?_
  refine r_istore X dX6_ordinal_13 (hL 4 (by decide)) (lv' := [(4, iv ((Int.tmod ((Int.tdiv (x2) (100))) (100)))), (3, iv ((Int.tdiv (x2) (10000)))), (0, .ref (a0)), (1, iv (x1)), (2, iv (x2))]) rfl ?_
  refine r_aload_n X 2 dX6_ordinal_15 rfl rfl ?_
  refine r_getA (kf := 13) X ho0.1 rfl (by decide) (by decide) (Or.inl q1254) dX6_ordinal_16 ?_
  refine r_sipush X dX6_ordinal_19 (by decide) ?_
  refine r_iload_n X 3 dX6_ordinal_22 rfl rfl ?_
  refine r_imul X dX6_ordinal_23 ?_
  refine r_iload_n X 1 dX6_ordinal_24 rfl rfl ?_
  refine r_iadd X dX6_ordinal_25 ?_
  refine r_iald X ho0.1 (ho0.2 13 (by decide)) rfl rfl rfl (by decide) dX6_ordinal_26 h (fun h => ?_)
  refine r_iload_n X 4 dX6_ordinal_27 rfl rfl ?_
  refine r_bipush X dX6_ordinal_28 (by decide) ?_
  obtain ⟨c4, h⟩ := ck_some h
  refine r_irem X dX6_ordinal_30 c4 (by decide) (by decide) ?_
  refine r_iadd X dX6_ordinal_31 ?_
  refine r_iconst X dX6_ordinal_32 ?_
  refine r_isub X dX6_ordinal_33 ?_
  refine r_istore X dX6_ordinal_34 (hL 5 (by decide)) (lv' := [(5, iv ((((gI (σ) (a0) 13 (((10001 * x1) + (Int.tdiv (x2) (10000))))) + (Int.tmod (x2) (100))) - 1))), (4, iv ((Int.tmod ((Int.tdiv (x2) (100))) (100)))), (3, iv ((Int.tdiv (x2) (10000)))), (0, .ref (a0)), (1, iv (x1)), (2, iv (x2))]) rfl ?_
  refine r_iconst X dX6_ordinal_36 ?_
  refine r_istore X dX6_ordinal_37 (hL 6 (by decide)) (lv' := [(6, iv (1)), (5, iv ((((gI (σ) (a0) 13 (((10001 * x1) + (Int.tdiv (x2) (10000))))) + (Int.tmod (x2) (100))) - 1))), (4, iv ((Int.tmod ((Int.tdiv (x2) (100))) (100)))), (3, iv ((Int.tdiv (x2) (10000)))), (0, .ref (a0)), (1, iv (x1)), (2, iv (x2))]) rfl ?_
  have L39 : ∀ s : Int × Int, lp (fun s => f_X6_ordinal_b39 (σ) (a0) (x1) ((Int.tdiv (x2) (10000))) ((Int.tmod ((Int.tdiv (x2) (100))) (100))) s.1 s.2) s = some w → V Γ (σ) 0 0 39 [(0, .ref (a0)), (1, iv (x1)), (3, iv ((Int.tdiv (x2) (10000)))), (4, iv ((Int.tmod ((Int.tdiv (x2) (100))) (100)))), (5, iv (s.1)), (6, iv (s.2))] [] := by
    refine lp_rule (P := fun s : Int × Int => V Γ (σ) 0 0 39 [(0, .ref (a0)), (1, iv (x1)), (3, iv ((Int.tdiv (x2) (10000)))), (4, iv ((Int.tmod ((Int.tdiv (x2) (100))) (100)))), (5, iv (s.1)), (6, iv (s.2))] []) ?_
    intro s z1 h ihb1 ihe1
    obtain ⟨v5_1, v6_1⟩ := s
    have h : f_X6_ordinal_b39 (σ) (a0) (x1) ((Int.tdiv (x2) (10000))) ((Int.tmod ((Int.tdiv (x2) (100))) (100))) v5_1 v6_1 = some z1 := h
    unfold f_X6_ordinal_b39 at h
    show V Γ σ 0 0 39 [(0, .ref (a0)), (1, iv (x1)), (3, iv ((Int.tdiv (x2) (10000)))), (4, iv ((Int.tmod ((Int.tdiv (x2) (100))) (100)))), (5, iv (v5_1)), (6, iv (v6_1))] []
    refine r_iload X 5 dX6_ordinal_39 rfl ?_
    refine r_iload X 3 dX6_ordinal_41 rfl ?_
    refine r_icmp_ge (tgt := 65) X dX6_ordinal_43 (by decide) h (fun c5 h => ?_) (fun c5 h => ?_)
    · refine r_iload X 4 dX6_ordinal_46 rfl ?_
      refine r_aload_n X 0 dX6_ordinal_48 rfl rfl ?_
      refine r_iload_n X 1 dX6_ordinal_49 rfl rfl ?_
      refine r_iload_n X 2 dX6_ordinal_50 rfl rfl ?_
      refine r_iload X 5 dX6_ordinal_51 rfl ?_
      obtain ⟨r7, h6, h⟩ := bd_some h
      refine r_cV (Wd := 1) X (fun l D sz => w_X6_daysOf l D sz h6) ho0.1 rfl q1537 qs57 q1535 q109 q1538 hy_X6_daysOf rfl dX6_ordinal_53 rfl rfl (Nat.le_of_ble_eq_true rfl) ⟨Nat.le_of_ble_eq_true rfl, Nat.le_of_ble_eq_true rfl⟩ ⟨Nat.le_of_ble_eq_true rfl, Nat.le_of_ble_eq_true rfl⟩ ?_
      refine r_iadd X dX6_ordinal_56 ?_
      refine r_istore X dX6_ordinal_57 (hL 5 (by decide)) (lv' := [(5, iv ((v5_1 + r7))), (0, .ref (a0)), (1, iv (x1)), (3, iv ((Int.tdiv (x2) (10000)))), (4, iv ((Int.tmod ((Int.tdiv (x2) (100))) (100)))), (6, iv (v6_1))]) rfl ?_
      refine r_iinc X 5 dX6_ordinal_59 rfl (hL 6 (by decide)) (lv' := [(6, iv ((v6_1 + 1))), (5, iv ((v5_1 + r7))), (0, .ref (a0)), (1, iv (x1)), (3, iv ((Int.tdiv (x2) (10000)))), (4, iv ((Int.tmod ((Int.tdiv (x2) (100))) (100))))]) rfl ?_
      refine r_goto (tgt := 39) X dX6_ordinal_62 (by decide) ?_
      exact V.sub [2, 3, 4, 5, 1, 0] rfl (ihb1 _ (Option.some.inj h).symm)
    · have h := ex_some h ihe1
      refine r_iload X 4 dX6_ordinal_65 rfl ?_
      cases h
      exact r_iret X hr dX6_ordinal_67
  exact V.sub [4, 5, 3, 2, 1, 0] rfl (L39 ((((gI (σ) (a0) 13 (((10001 * x1) + (Int.tdiv (x2) (10000))))) + (Int.tmod (x2) (100))) - 1), 1) h)
theorem hy_X6_dated : yX6_dated.cls ≠ "java/lang/invoke/MethodHandle" ∧ yX6_dated.cls ≠ "java/lang/invoke/VarHandle" ∧ (parseMethodDescriptor yX6_dated.desc).map (fun d => d.parameters.length) = some 2 := by decide +kernel
set_option maxHeartbeats 4000000 in
theorem w_X6_dated (l : Launch) (D : DD) (sz : Nat) {σ : St} {a0 : Nat} {x1 : Int} {x2 : Int} {w : Int} (h : f_X6_dated σ a0 x1 x2 = some w) : Mt l yX6_dated cX6_dated 7 (some FieldType.int) ({ frames := 2, cells := 0, slots := 0, locals := 32 } : Room) D sz σ [.ref a0, iv (x1), iv (x2)] (.returned (some (iv w))) (σ) 0 0 := by
  refine Mt.of (by decide +kernel) (Nat.le_of_ble_eq_true rfl) ?_
  intro Γ X hr hnl hini hnoh
  have X : Cx Γ cX6_dated "DayBoyModel" _ := X
  have hL : ∀ i, i < 7 → i < nLc Γ := fun i q => by rw [hnl]; exact q
  show V Γ σ 0 0 0 [(0, .ref (a0)), (1, iv (x1)), (2, iv (x2))] []
  unfold f_X6_dated at h
  obtain ⟨ho0, h⟩ := cO_some h
  have J113 : ∀ (v3_j113 : Int) (v5_j113 : Int) (v6_j113 : Int), f_X6_dated_j113 (σ) v3_j113 v5_j113 v6_j113 = some w → V Γ σ 0 0 113 [(3, iv (v3_j113)), (5, iv (v5_j113)), (6, iv (v6_j113))] [] := by
    intro v3_j113 v5_j113 v6_j113 h
    unfold f_X6_dated_j113 at h
    refine r_iload_n X 0 dX6_dated_113 rfl rfl ?_
    refine r_iload X 2 dX6_dated_114 rfl ?_
    refine r_iload X 1 dX6_dated_116 rfl ?_
    refine r_iconst X dX6_dated_118 ?_
    refine r_iadd X dX6_dated_119 ?_
    obtain ⟨r2, h1, h⟩ := bd_some h
    refine r_cS (Wd := 0) X (fun l D sz => w_X6_code l D sz h1) q1529 q1528 q109 q1530 hy_X6_code rfl dX6_dated_120 rfl rfl (Nat.le_of_ble_eq_true rfl) ⟨Nat.le_of_ble_eq_true rfl, Nat.le_of_ble_eq_true rfl⟩ ⟨Nat.le_of_ble_eq_true rfl, Nat.le_of_ble_eq_true rfl⟩ ?_
    cases h
    exact r_iret X hr dX6_dated_123
  refine r_iconst X dX6_dated_0 ?_
  refine r_istore_n X dX6_dated_1 rfl (hL 3 (by decide)) (lv' := [(3, iv (1)), (0, .ref (a0)), (1, iv (x1)), (2, iv (x2))]) rfl ?_
  refine r_sipush X dX6_dated_2 (by decide) ?_
  refine r_istore X dX6_dated_5 (hL 4 (by decide)) (lv' := [(4, iv (10000)), (3, iv (1)), (0, .ref (a0)), (1, iv (x1)), (2, iv (x2))]) rfl ?_
  have L7 : ∀ s : Int × Int, lp (fun s => f_X6_dated_b7 (σ) (a0) (x1) (x2) s.1 s.2) s = some w → V Γ (σ) 0 0 7 [(0, .ref (a0)), (1, iv (x1)), (2, iv (x2)), (3, iv (s.1)), (4, iv (s.2))] [] := by
    refine lp_rule (P := fun s : Int × Int => V Γ (σ) 0 0 7 [(0, .ref (a0)), (1, iv (x1)), (2, iv (x2)), (3, iv (s.1)), (4, iv (s.2))] []) ?_
    intro s z1 h ihb1 ihe1
    obtain ⟨v3_1, v4_1⟩ := s
    have h : f_X6_dated_b7 (σ) (a0) (x1) (x2) v3_1 v4_1 = some z1 := h
    unfold f_X6_dated_b7 at h
    show V Γ σ 0 0 7 [(0, .ref (a0)), (1, iv (x1)), (2, iv (x2)), (3, iv (v3_1)), (4, iv (v4_1))] []
    refine r_iload_n X 3 dX6_dated_7 rfl rfl ?_
    refine r_iload X 4 dX6_dated_8 rfl ?_
    refine r_icmp_ge (tgt := 55) X dX6_dated_10 (by decide) h (fun c3 h => ?_) (fun c3 h => ?_)
    · refine r_iload_n X 3 dX6_dated_13 rfl rfl ?_
      refine r_iload X 4 dX6_dated_14 rfl ?_
      refine r_iadd X dX6_dated_16 ?_
      refine r_iconst X dX6_dated_17 ?_
      refine r_iadd X dX6_dated_18 ?_
      refine r_iconst X dX6_dated_19 ?_
      obtain ⟨c4, h⟩ := ck_some h
      refine r_idiv X dX6_dated_20 c4 (by decide) (by decide) ?_
      refine r_istore X dX6_dated_21 (hL 5 (by decide)) (lv' := [(5, iv ((Int.tdiv (((v3_1 + v4_1) + 1)) (2)))), (0, .ref (a0)), (1, iv (x1)), (2, iv (x2)), (3, iv (v3_1)), (4, iv (v4_1))]) rfl ?_
      refine r_aload_n X 1 dX6_dated_23 rfl rfl ?_
      refine r_getA (kf := 13) X ho0.1 rfl (by decide) (by decide) (Or.inl q1254) dX6_dated_24 ?_
      refine r_sipush X dX6_dated_27 (by decide) ?_
      refine r_iload_n X 2 dX6_dated_30 rfl rfl ?_
      refine r_imul X dX6_dated_31 ?_
      refine r_iload X 0 dX6_dated_32 rfl ?_
      refine r_iadd X dX6_dated_34 ?_
      refine r_iald X ho0.1 (ho0.2 13 (by decide)) rfl rfl rfl (by decide) dX6_dated_35 h (fun h => ?_)
      refine r_iload_n X 3 dX6_dated_36 rfl rfl ?_
      refine r_icmp_gt (tgt := 46) X dX6_dated_37 (by decide) h (fun c5 h => ?_) (fun c5 h => ?_)
      · refine r_iload X 0 dX6_dated_46 rfl ?_
        refine r_iconst X dX6_dated_48 ?_
        refine r_isub X dX6_dated_49 ?_
        refine r_istore X dX6_dated_50 (hL 4 (by decide)) (lv' := [(4, iv (((Int.tdiv (((v3_1 + v4_1) + 1)) (2)) - 1))), (5, iv ((Int.tdiv (((v3_1 + v4_1) + 1)) (2)))), (0, .ref (a0)), (1, iv (x1)), (2, iv (x2)), (3, iv (v3_1))]) rfl ?_
        refine r_goto (tgt := 7) X dX6_dated_52 (by decide) ?_
        exact V.sub [2, 3, 4, 5, 0] rfl (ihb1 _ (Option.some.inj h).symm)
      · refine r_iload X 0 dX6_dated_40 rfl ?_
        refine r_istore_n X dX6_dated_42 rfl (hL 3 (by decide)) (lv' := [(3, iv ((Int.tdiv (((v3_1 + v4_1) + 1)) (2)))), (5, iv ((Int.tdiv (((v3_1 + v4_1) + 1)) (2)))), (0, .ref (a0)), (1, iv (x1)), (2, iv (x2)), (4, iv (v4_1))]) rfl ?_
        refine r_goto (tgt := 52) X dX6_dated_43 (by decide) ?_
        refine r_goto (tgt := 7) X dX6_dated_52 (by decide) ?_
        exact V.sub [2, 3, 4, 0, 5] rfl (ihb1 _ (Option.some.inj h).symm)
    · have h := ex_some h ihe1
      refine r_iload_n X 2 dX6_dated_55 rfl rfl ?_
      refine r_aload_n X 0 dX6_dated_56 rfl rfl ?_
      refine r_getA (kf := 13) X ho0.1 rfl (by decide) (by decide) (Or.inl q1254) dX6_dated_57 ?_
      refine r_sipush X dX6_dated_60 (by decide) ?_
      refine r_iload_n X 1 dX6_dated_63 rfl rfl ?_
      refine r_imul X dX6_dated_64 ?_
      refine r_iload_n X 3 dX6_dated_65 rfl rfl ?_
      refine r_iadd X dX6_dated_66 ?_
      refine r_iald X ho0.1 (ho0.2 13 (by decide)) rfl rfl rfl (by decide) dX6_dated_67 h (fun h => ?_)
      refine r_isub X dX6_dated_68 ?_
      refine r_istore X dX6_dated_69 (hL 5 (by decide)) (lv' := [(5, iv ((x2 - (gI (σ) (a0) 13 (((10001 * x1) + v3_1)))))), (0, .ref (a0)), (1, iv (x1)), (2, iv (x2)), (3, iv (v3_1)), (4, iv (v4_1))]) rfl ?_
      refine r_iconst X dX6_dated_71 ?_
      refine r_istore X dX6_dated_72 (hL 6 (by decide)) (lv' := [(6, iv (1)), (5, iv ((x2 - (gI (σ) (a0) 13 (((10001 * x1) + v3_1)))))), (0, .ref (a0)), (1, iv (x1)), (2, iv (x2)), (3, iv (v3_1)), (4, iv (v4_1))]) rfl ?_
      have L74 : ∀ s : Int × Int, lp (fun s => f_X6_dated_b74 (σ) (a0) (x1) (v3_1) s.1 s.2) s = some w → V Γ (σ) 0 0 74 [(0, .ref (a0)), (1, iv (x1)), (3, iv (v3_1)), (5, iv (s.1)), (6, iv (s.2))] [] := by
        refine lp_rule (P := fun s : Int × Int => V Γ (σ) 0 0 74 [(0, .ref (a0)), (1, iv (x1)), (3, iv (v3_1)), (5, iv (s.1)), (6, iv (s.2))] []) ?_
        intro s z1 h ihb1 ihe1
        obtain ⟨v5_1, v6_1⟩ := s
        have h : f_X6_dated_b74 (σ) (a0) (x1) (v3_1) v5_1 v6_1 = some z1 := h
        unfold f_X6_dated_b74 at h
        show V Γ σ 0 0 74 [(0, .ref (a0)), (1, iv (x1)), (3, iv (v3_1)), (5, iv (v5_1)), (6, iv (v6_1))] []
        refine r_iload X 4 dX6_dated_74 rfl ?_
        refine r_bipush X dX6_dated_76 (by decide) ?_
        refine r_icmp_ge (tgt := 113) X dX6_dated_78 (by decide) h (fun c6 h => ?_) (fun c6 h => ?_)
        · refine r_iload X 3 dX6_dated_81 rfl ?_
          refine r_aload_n X 0 dX6_dated_83 rfl rfl ?_
          refine r_iload_n X 1 dX6_dated_84 rfl rfl ?_
          refine r_iload_n X 2 dX6_dated_85 rfl rfl ?_
          refine r_iload X 4 dX6_dated_86 rfl ?_
          obtain ⟨r8, h7, h⟩ := bd_some h
          refine r_cV (Wd := 1) X (fun l D sz => w_X6_daysOf l D sz h7) ho0.1 rfl q1537 qs57 q1535 q109 q1538 hy_X6_daysOf rfl dX6_dated_88 rfl rfl (Nat.le_of_ble_eq_true rfl) ⟨Nat.le_of_ble_eq_true rfl, Nat.le_of_ble_eq_true rfl⟩ ⟨Nat.le_of_ble_eq_true rfl, Nat.le_of_ble_eq_true rfl⟩ ?_
          refine r_icmp_lt (tgt := 113) X dX6_dated_91 (by decide) h (fun c9 h => ?_) (fun c9 h => ?_)
          · have h := ex_some h ihe1
            exact V.sub [2, 3, 4] rfl (J113 (v3_1) (v5_1) (v6_1) h)
          · refine r_iload X 3 dX6_dated_94 rfl ?_
            refine r_aload_n X 0 dX6_dated_96 rfl rfl ?_
            refine r_iload_n X 1 dX6_dated_97 rfl rfl ?_
            refine r_iload_n X 2 dX6_dated_98 rfl rfl ?_
            refine r_iload X 4 dX6_dated_99 rfl ?_
            obtain ⟨r11, h10, h⟩ := bd_some h
            refine r_cV (Wd := 1) X (fun l D sz => w_X6_daysOf l D sz h10) ho0.1 rfl q1537 qs57 q1535 q109 q1538 hy_X6_daysOf rfl dX6_dated_101 rfl rfl (Nat.le_of_ble_eq_true rfl) ⟨Nat.le_of_ble_eq_true rfl, Nat.le_of_ble_eq_true rfl⟩ ⟨Nat.le_of_ble_eq_true rfl, Nat.le_of_ble_eq_true rfl⟩ ?_
            refine r_isub X dX6_dated_104 ?_
            refine r_istore X dX6_dated_105 (hL 5 (by decide)) (lv' := [(5, iv ((v5_1 - r11))), (0, .ref (a0)), (1, iv (x1)), (3, iv (v3_1)), (6, iv (v6_1))]) rfl ?_
            refine r_iinc X 4 dX6_dated_107 rfl (hL 6 (by decide)) (lv' := [(6, iv ((v6_1 + 1))), (5, iv ((v5_1 - r11))), (0, .ref (a0)), (1, iv (x1)), (3, iv (v3_1))]) rfl ?_
            refine r_goto (tgt := 74) X dX6_dated_110 (by decide) ?_
            exact V.sub [2, 3, 4, 1, 0] rfl (ihb1 _ (Option.some.inj h).symm)
        · have h := ex_some h ihe1
          exact V.sub [2, 3, 4] rfl (J113 (v3_1) (v5_1) (v6_1) h)
      exact V.sub [2, 3, 5, 1, 0] rfl (L74 ((x2 - (gI (σ) (a0) 13 (((10001 * x1) + v3_1)))), 1) h)
  exact V.sub [2, 3, 4, 1, 0] rfl (L7 (1, 10000) h)
theorem hy_X6_change : yX6_change.cls ≠ "java/lang/invoke/MethodHandle" ∧ yX6_change.cls ≠ "java/lang/invoke/VarHandle" ∧ (parseMethodDescriptor yX6_change.desc).map (fun d => d.parameters.length) = some 2 := by decide +kernel
set_option maxHeartbeats 4000000 in
theorem w_X6_change (l : Launch) (D : DD) (sz : Nat) {σ : St} {a0 : Nat} {x1 : Int} {x2 : Int} {w : St} (h : f_X6_change σ a0 x1 x2 = some w) : Mt l yX6_change cX6_change 7 none ({ frames := 5, cells := 0, slots := 0, locals := 71 } : Room) D sz σ [.ref a0, iv (x1), iv (x2)] (.returned none) (w) 0 0 := by
  refine Mt.of (by decide +kernel) (Nat.le_of_ble_eq_true rfl) ?_
  intro Γ X hr hnl hini hnoh
  have X : Cx Γ cX6_change "DayBoyModel" _ := X
  have hL : ∀ i, i < 7 → i < nLc Γ := fun i q => by rw [hnl]; exact q
  show V Γ σ 0 0 0 [(0, .ref (a0)), (1, iv (x1)), (2, iv (x2))] []
  unfold f_X6_change at h
  obtain ⟨ho0, h⟩ := cO_some h
  have J85 : ∀ (v3_j85 : Int) (v4_j85 : Int) (v5_j85 : Int) (σ_j85 : St), f_X6_change_j85 (a0) (x1) (x2) v3_j85 v4_j85 v5_j85 σ_j85 = some w → V Γ σ_j85 0 0 85 [(0, .ref (a0)), (1, iv (x1)), (2, iv (x2)), (3, iv (v3_j85)), (4, iv (v4_j85)), (5, iv (v5_j85))] [] := by
    intro v3_j85 v4_j85 v5_j85 σ_j85 h
    unfold f_X6_change_j85 at h
    refine r_aload_n X 0 dX6_change_85 rfl rfl ?_
    obtain ⟨ho2, h⟩ := cO_some h
    obtain ⟨σ3, h1, h⟩ := bd_some h
    refine r_cV (Wd := 0) X (fun l D sz => w_X6_closeNumber l D sz h1) ho2.1 rfl q1510 qs51 q1508 q109 q1511 hy_X6_closeNumber rfl dX6_change_86 rfl rfl (Nat.le_of_ble_eq_true rfl) ⟨Nat.le_of_ble_eq_true rfl, Nat.le_of_ble_eq_true rfl⟩ ⟨Nat.le_of_ble_eq_true rfl, Nat.le_of_ble_eq_true rfl⟩ ?_
    refine r_aload_n X 0 dX6_change_89 rfl rfl ?_
    refine r_bipush X dX6_change_90 (by decide) ?_
    obtain ⟨ho5, h⟩ := cO_some h
    obtain ⟨σ6, h4, h⟩ := bd_some h
    refine r_cV (Wd := 0) X (fun l D sz => w_X6_sign l D sz h4) ho5.1 rfl q1514 qs52 q1512 q109 q1515 hy_X6_sign rfl dX6_change_92 rfl rfl (Nat.le_of_ble_eq_true rfl) ⟨Nat.le_of_ble_eq_true rfl, Nat.le_of_ble_eq_true rfl⟩ ⟨Nat.le_of_ble_eq_true rfl, Nat.le_of_ble_eq_true rfl⟩ ?_
    refine r_aload_n X 0 dX6_change_95 rfl rfl ?_
    refine r_iconst X dX6_change_96 ?_
    refine r_bipush X dX6_change_97 (by decide) ?_
    obtain ⟨ho8, h⟩ := cO_some h
    obtain ⟨r9, σ10, h7, h⟩ := bd2_some h
    refine r_cV (Wd := 0) X (fun l D sz => w_X6_plain l D sz h7) ho8.1 rfl q1480 qs45 q1478 q109 q1481 hy_X6_plain rfl dX6_change_99 rfl rfl (Nat.le_of_ble_eq_true rfl) ⟨Nat.le_of_ble_eq_true rfl, Nat.le_of_ble_eq_true rfl⟩ ⟨Nat.le_of_ble_eq_true rfl, Nat.le_of_ble_eq_true rfl⟩ ?_
    refine r_istore X dX6_change_102 (hL 6 (by decide)) (lv' := [(6, iv (r9)), (0, .ref (a0)), (1, iv (x1)), (2, iv (x2)), (3, iv (v3_j85)), (4, iv (v4_j85)), (5, iv (v5_j85))]) rfl ?_
    refine r_aload_n X 1 dX6_change_104 rfl rfl ?_
    refine r_bipush X dX6_change_105 (by decide) ?_
    obtain ⟨ho12, h⟩ := cO_some h
    obtain ⟨σ13, h11, h⟩ := bd_some h
    refine r_cV (Wd := 0) X (fun l D sz => w_X6_sign l D sz h11) ho12.1 rfl q1514 qs52 q1512 q109 q1515 hy_X6_sign rfl dX6_change_107 rfl rfl (Nat.le_of_ble_eq_true rfl) ⟨Nat.le_of_ble_eq_true rfl, Nat.le_of_ble_eq_true rfl⟩ ⟨Nat.le_of_ble_eq_true rfl, Nat.le_of_ble_eq_true rfl⟩ ?_
    refine r_aload_n X 1 dX6_change_110 rfl rfl ?_
    refine r_iload_n X 3 dX6_change_111 rfl rfl ?_
    obtain ⟨ho15, h⟩ := cO_some h
    obtain ⟨σ16, h14, h⟩ := bd_some h
    refine r_cV (Wd := 0) X (fun l D sz => w_X6_readLeaps l D sz h14) ho15.1 rfl q1518 qs53 q1516 q109 q1519 hy_X6_readLeaps rfl dX6_change_112 rfl rfl (Nat.le_of_ble_eq_true rfl) ⟨Nat.le_of_ble_eq_true rfl, Nat.le_of_ble_eq_true rfl⟩ ⟨Nat.le_of_ble_eq_true rfl, Nat.le_of_ble_eq_true rfl⟩ ?_
    refine r_aload_n X 1 dX6_change_115 rfl rfl ?_
    obtain ⟨ho17, h⟩ := cO_some h
    refine r_getI (kf := 4) X ho17.1 rfl (by decide) rfl (Or.inl q1245) dX6_change_116 ?_
    refine r_iconst X dX6_change_119 ?_
    refine r_icmp_eq (tgt := 124) X dX6_change_120 (by decide) h (fun c18 h => ?_) (fun c18 h => ?_)
    · refine r_aload_n X 1 dX6_change_124 rfl rfl ?_
      refine r_getA (kf := 10) X ho17.1 rfl (by decide) (by decide) (Or.inl q1251) dX6_change_125 ?_
      refine r_iload_n X 3 dX6_change_128 rfl rfl ?_
      refine r_iconst X dX6_change_129 ?_
      refine r_isub X dX6_change_130 ?_
      refine r_iload_n X 4 dX6_change_131 rfl rfl ?_
      refine r_iload X 5 dX6_change_132 rfl ?_
      refine r_iload X 6 dX6_change_134 rfl ?_
      obtain ⟨r20, h19, h⟩ := bd_some h
      refine r_cS (Wd := 2) X (fun l D sz => w_X6_code l D sz h19) q1529 q1528 q109 q1530 hy_X6_code rfl dX6_change_136 rfl rfl (by simp only [List.map_cons, List.map_nil, cat_rf, cat_iv, cat_jv, cat_ref, List.sum_cons, List.sum_nil]; decide) ⟨Nat.le_of_ble_eq_true rfl, Nat.le_of_ble_eq_true rfl⟩ ⟨Nat.le_of_ble_eq_true rfl, Nat.le_of_ble_eq_true rfl⟩ ?_
      refine r_iast X ho17.1 (ho17.2 10 (by decide)) rfl rfl rfl (by decide) dX6_change_139 h (fun h => ?_)
      refine r_let h (fun σ21 eσ21 h => ?_)
      refine r_aload_n X 1 dX6_change_140 rfl rfl ?_
      have hk22 : oc σ21 (a0) 5 := by rw [eσ21]; exact ho17
      refine r_getA (kf := 12) X hk22.1 rfl (by decide) (by decide) (Or.inl q1253) dX6_change_141 ?_
      refine r_iload_n X 3 dX6_change_144 rfl rfl ?_
      refine r_aload_n X 1 dX6_change_145 rfl rfl ?_
      refine r_getA (kf := 12) X hk22.1 rfl (by decide) (by decide) (Or.inl q1253) dX6_change_146 ?_
      refine r_iload_n X 3 dX6_change_149 rfl rfl ?_
      refine r_iconst X dX6_change_150 ?_
      refine r_isub X dX6_change_151 ?_
      refine r_iald X hk22.1 (hk22.2 12 (by decide)) rfl rfl rfl (by decide) dX6_change_152 h (fun h => ?_)
      refine r_aload_n X 1 dX6_change_153 rfl rfl ?_
      refine r_iload_n X 3 dX6_change_154 rfl rfl ?_
      refine r_iconst X dX6_change_155 ?_
      refine r_isub X dX6_change_156 ?_
      refine r_iload_n X 4 dX6_change_157 rfl rfl ?_
      refine r_iload X 5 dX6_change_158 rfl ?_
      refine r_iload X 6 dX6_change_160 rfl ?_
      obtain ⟨r24, h23, h⟩ := bd_some h
      refine r_cS (Wd := 5) X (fun l D sz => w_X6_code l D sz h23) q1529 q1528 q109 q1530 hy_X6_code rfl dX6_change_162 rfl rfl (by simp only [List.map_cons, List.map_nil, cat_rf, cat_iv, cat_jv, cat_ref, List.sum_cons, List.sum_nil]; decide) ⟨Nat.le_of_ble_eq_true rfl, Nat.le_of_ble_eq_true rfl⟩ ⟨Nat.le_of_ble_eq_true rfl, Nat.le_of_ble_eq_true rfl⟩ ?_
      obtain ⟨r26, h25, h⟩ := bd_some h
      refine r_cV (Wd := 3) X (fun l D sz => w_X6_ordinal l D sz h25) hk22.1 rfl q1541 qs58 q1539 q109 q1542 hy_X6_ordinal rfl dX6_change_165 rfl rfl (by simp only [List.map_cons, List.map_nil, cat_rf, cat_iv, cat_jv, cat_ref, List.sum_cons, List.sum_nil]; decide) ⟨Nat.le_of_ble_eq_true rfl, Nat.le_of_ble_eq_true rfl⟩ ⟨Nat.le_of_ble_eq_true rfl, Nat.le_of_ble_eq_true rfl⟩ ?_
      refine r_iadd X dX6_change_168 ?_
      refine r_aload_n X 1 dX6_change_169 rfl rfl ?_
      refine r_iload_n X 3 dX6_change_170 rfl rfl ?_
      refine r_iconst X dX6_change_171 ?_
      refine r_isub X dX6_change_172 ?_
      refine r_aload_n X 1 dX6_change_173 rfl rfl ?_
      refine r_getA (kf := 11) X hk22.1 rfl (by decide) (by decide) (Or.inl q1252) dX6_change_174 ?_
      refine r_iload_n X 3 dX6_change_177 rfl rfl ?_
      refine r_iconst X dX6_change_178 ?_
      refine r_isub X dX6_change_179 ?_
      refine r_iald X hk22.1 (hk22.2 11 (by decide)) rfl rfl rfl (by decide) dX6_change_180 h (fun h => ?_)
      obtain ⟨r28, h27, h⟩ := bd_some h
      refine r_cV (Wd := 3) X (fun l D sz => w_X6_ordinal l D sz h27) hk22.1 rfl q1541 qs58 q1539 q109 q1542 hy_X6_ordinal rfl dX6_change_181 rfl rfl (by simp only [List.map_cons, List.map_nil, cat_rf, cat_iv, cat_jv, cat_ref, List.sum_cons, List.sum_nil]; decide) ⟨Nat.le_of_ble_eq_true rfl, Nat.le_of_ble_eq_true rfl⟩ ⟨Nat.le_of_ble_eq_true rfl, Nat.le_of_ble_eq_true rfl⟩ ?_
      refine r_isub X dX6_change_184 ?_
      refine r_iconst X dX6_change_185 ?_
      refine r_iadd X dX6_change_186 ?_
      refine r_iast X hk22.1 (hk22.2 12 (by decide)) rfl rfl rfl (by decide) dX6_change_187 h (fun h => ?_)
      refine r_let h (fun σ29 eσ29 h => ?_)
      refine r_aload_n X 1 dX6_change_188 rfl rfl ?_
      have hk30 : oc σ29 (a0) 5 := by rw [eσ29]; exact hk22
      refine r_getA (kf := 11) X hk30.1 rfl (by decide) (by decide) (Or.inl q1252) dX6_change_189 ?_
      refine r_iload_n X 3 dX6_change_192 rfl rfl ?_
      refine r_aload_n X 1 dX6_change_193 rfl rfl ?_
      refine r_iload_n X 3 dX6_change_194 rfl rfl ?_
      refine r_aload_n X 1 dX6_change_195 rfl rfl ?_
      refine r_iload_n X 3 dX6_change_196 rfl rfl ?_
      refine r_iload_n X 4 dX6_change_197 rfl rfl ?_
      refine r_iload X 5 dX6_change_198 rfl ?_
      refine r_iload X 6 dX6_change_200 rfl ?_
      refine r_aload_n X 1 dX6_change_202 rfl rfl ?_
      refine r_iload_n X 3 dX6_change_203 rfl rfl ?_
      refine r_iload_n X 4 dX6_change_204 rfl rfl ?_
      refine r_iload X 5 dX6_change_205 rfl ?_
      obtain ⟨r32, h31, h⟩ := bd_some h
      refine r_cV (Wd := 9) X (fun l D sz => w_X6_daysOf l D sz h31) hk30.1 rfl q1537 qs57 q1535 q109 q1538 hy_X6_daysOf rfl dX6_change_207 rfl rfl (by simp only [List.map_cons, List.map_nil, cat_rf, cat_iv, cat_jv, cat_ref, List.sum_cons, List.sum_nil]; decide) ⟨Nat.le_of_ble_eq_true rfl, Nat.le_of_ble_eq_true rfl⟩ ⟨Nat.le_of_ble_eq_true rfl, Nat.le_of_ble_eq_true rfl⟩ ?_
      obtain ⟨r34, h33, h⟩ := bd_some h
      refine r_cS (Wd := 8) X (fun l D sz => w_J3_min l D sz h33) q585 q1543 q115 q586 hy_J3_min rfl dX6_change_210 rfl rfl (by simp only [List.map_cons, List.map_nil, cat_rf, cat_iv, cat_jv, cat_ref, List.sum_cons, List.sum_nil]; decide) ⟨Nat.le_of_ble_eq_true rfl, Nat.le_of_ble_eq_true rfl⟩ ⟨Nat.le_of_ble_eq_true rfl, Nat.le_of_ble_eq_true rfl⟩ ?_
      obtain ⟨r36, h35, h⟩ := bd_some h
      refine r_cS (Wd := 6) X (fun l D sz => w_X6_code l D sz h35) q1529 q1528 q109 q1530 hy_X6_code rfl dX6_change_213 rfl rfl (by simp only [List.map_cons, List.map_nil, cat_rf, cat_iv, cat_jv, cat_ref, List.sum_cons, List.sum_nil]; decide) ⟨Nat.le_of_ble_eq_true rfl, Nat.le_of_ble_eq_true rfl⟩ ⟨Nat.le_of_ble_eq_true rfl, Nat.le_of_ble_eq_true rfl⟩ ?_
      obtain ⟨r38, h37, h⟩ := bd_some h
      refine r_cV (Wd := 4) X (fun l D sz => w_X6_ordinal l D sz h37) hk30.1 rfl q1541 qs58 q1539 q109 q1542 hy_X6_ordinal rfl dX6_change_216 rfl rfl (by simp only [List.map_cons, List.map_nil, cat_rf, cat_iv, cat_jv, cat_ref, List.sum_cons, List.sum_nil]; decide) ⟨Nat.le_of_ble_eq_true rfl, Nat.le_of_ble_eq_true rfl⟩ ⟨Nat.le_of_ble_eq_true rfl, Nat.le_of_ble_eq_true rfl⟩ ?_
      refine r_iload X 0 dX6_change_219 rfl ?_
      refine r_iadd X dX6_change_221 ?_
      refine r_iconst X dX6_change_222 ?_
      refine r_iadd X dX6_change_223 ?_
      obtain ⟨r40, h39, h⟩ := bd_some h
      refine r_cV (Wd := 2) X (fun l D sz => w_X6_dated l D sz h39) hk30.1 rfl q1546 qs59 q1544 q109 q1547 hy_X6_dated rfl dX6_change_224 rfl rfl (by simp only [List.map_cons, List.map_nil, cat_rf, cat_iv, cat_jv, cat_ref, List.sum_cons, List.sum_nil]; decide) ⟨Nat.le_of_ble_eq_true rfl, Nat.le_of_ble_eq_true rfl⟩ ⟨Nat.le_of_ble_eq_true rfl, Nat.le_of_ble_eq_true rfl⟩ ?_
      refine r_iast X hk30.1 (hk30.2 11 (by decide)) rfl rfl rfl (by decide) dX6_change_227 h (fun h => ?_)
      refine r_let h (fun σ41 eσ41 h => ?_)
      refine r_aload_n X 1 dX6_change_228 rfl rfl ?_
      have hk42 : oc σ41 (a0) 5 := by rw [eσ41]; exact hk30
      refine r_getA (kf := 6) X hk42.1 rfl (by decide) (by decide) (Or.inl q1247) dX6_change_229 ?_
      refine r_iload_n X 2 dX6_change_232 rfl rfl ?_
      refine r_dup2 X dX6_change_233 rfl (cat_rf _) ?_
      refine r_iald X hk42.1 (hk42.2 6 (by decide)) rfl rfl rfl (by decide) dX6_change_234 h (fun h => ?_)
      refine r_iconst X dX6_change_235 ?_
      refine r_iadd X dX6_change_236 ?_
      refine r_iast X hk42.1 (hk42.2 6 (by decide)) rfl rfl rfl (by decide) dX6_change_237 h (fun h => ?_)
      refine r_let h (fun σ43 eσ43 h => ?_)
      cases h
      exact r_vret X hr dX6_change_238
    · cases h
      exact r_vret X hr dX6_change_123
  have J81 : ∀ (v3_j81 : Int) (v4_j81 : Int) (v5_j81 : Int) (σ_j81 : St), f_X6_change_j81 (a0) (x1) (x2) v3_j81 v4_j81 v5_j81 σ_j81 = some w → V Γ σ_j81 0 0 81 [(0, .ref (a0)), (1, iv (x1)), (2, iv (x2)), (3, iv (v3_j81)), (4, iv (v4_j81)), (5, iv (v5_j81))] [] := by
    intro v3_j81 v4_j81 v5_j81 σ_j81 h
    unfold f_X6_change_j81 at h
    refine r_aload_n X 0 dX6_change_81 rfl rfl ?_
    obtain ⟨ho45, h⟩ := cO_some h
    obtain ⟨σ46, h44, h⟩ := bd_some h
    refine r_cV (Wd := 0) X (fun l D sz => w_X6_wrongAtLast l D sz h44) ho45.1 rfl q1506 qs50 q1504 q109 q1507 hy_X6_wrongAtLast rfl dX6_change_82 rfl rfl (Nat.le_of_ble_eq_true rfl) ⟨Nat.le_of_ble_eq_true rfl, Nat.le_of_ble_eq_true rfl⟩ ⟨Nat.le_of_ble_eq_true rfl, Nat.le_of_ble_eq_true rfl⟩ ?_
    exact V.sub [0, 1, 2, 3, 4, 5] rfl (J85 (v3_j81) (v4_j81) (v5_j81) (σ46) h)
  refine r_aload_n X 0 dX6_change_0 rfl rfl ?_
  refine r_iconst X dX6_change_1 ?_
  refine r_sipush X dX6_change_2 (by decide) ?_
  obtain ⟨r48, σ49, h47, h⟩ := bd2_some h
  refine r_cV (Wd := 0) X (fun l D sz => w_X6_plain l D sz h47) ho0.1 rfl q1480 qs45 q1478 q109 q1481 hy_X6_plain rfl dX6_change_5 rfl rfl (Nat.le_of_ble_eq_true rfl) ⟨Nat.le_of_ble_eq_true rfl, Nat.le_of_ble_eq_true rfl⟩ ⟨Nat.le_of_ble_eq_true rfl, Nat.le_of_ble_eq_true rfl⟩ ?_
  refine r_istore_n X dX6_change_8 rfl (hL 3 (by decide)) (lv' := [(3, iv (r48)), (0, .ref (a0)), (1, iv (x1)), (2, iv (x2))]) rfl ?_
  refine r_aload_n X 1 dX6_change_9 rfl rfl ?_
  refine r_bipush X dX6_change_10 (by decide) ?_
  obtain ⟨ho51, h⟩ := cO_some h
  obtain ⟨σ52, h50, h⟩ := bd_some h
  refine r_cV (Wd := 0) X (fun l D sz => w_X6_sign l D sz h50) ho51.1 rfl q1514 qs52 q1512 q109 q1515 hy_X6_sign rfl dX6_change_12 rfl rfl (Nat.le_of_ble_eq_true rfl) ⟨Nat.le_of_ble_eq_true rfl, Nat.le_of_ble_eq_true rfl⟩ ⟨Nat.le_of_ble_eq_true rfl, Nat.le_of_ble_eq_true rfl⟩ ?_
  refine r_aload_n X 1 dX6_change_15 rfl rfl ?_
  refine r_iconst X dX6_change_16 ?_
  refine r_bipush X dX6_change_17 (by decide) ?_
  obtain ⟨ho54, h⟩ := cO_some h
  obtain ⟨r55, σ56, h53, h⟩ := bd2_some h
  refine r_cV (Wd := 0) X (fun l D sz => w_X6_plain l D sz h53) ho54.1 rfl q1480 qs45 q1478 q109 q1481 hy_X6_plain rfl dX6_change_19 rfl rfl (Nat.le_of_ble_eq_true rfl) ⟨Nat.le_of_ble_eq_true rfl, Nat.le_of_ble_eq_true rfl⟩ ⟨Nat.le_of_ble_eq_true rfl, Nat.le_of_ble_eq_true rfl⟩ ?_
  refine r_istore X dX6_change_22 (hL 4 (by decide)) (lv' := [(4, iv (r55)), (3, iv (r48)), (0, .ref (a0)), (1, iv (x1)), (2, iv (x2))]) rfl ?_
  refine r_aload_n X 2 dX6_change_24 rfl rfl ?_
  refine r_bipush X dX6_change_25 (by decide) ?_
  obtain ⟨ho58, h⟩ := cO_some h
  obtain ⟨σ59, h57, h⟩ := bd_some h
  refine r_cV (Wd := 0) X (fun l D sz => w_X6_sign l D sz h57) ho58.1 rfl q1514 qs52 q1512 q109 q1515 hy_X6_sign rfl dX6_change_27 rfl rfl (Nat.le_of_ble_eq_true rfl) ⟨Nat.le_of_ble_eq_true rfl, Nat.le_of_ble_eq_true rfl⟩ ⟨Nat.le_of_ble_eq_true rfl, Nat.le_of_ble_eq_true rfl⟩ ?_
  refine r_aload_n X 2 dX6_change_30 rfl rfl ?_
  refine r_iconst X dX6_change_31 ?_
  refine r_bipush X dX6_change_32 (by decide) ?_
  obtain ⟨ho61, h⟩ := cO_some h
  obtain ⟨r62, σ63, h60, h⟩ := bd2_some h
  refine r_cV (Wd := 0) X (fun l D sz => w_X6_number l D sz h60) ho61.1 rfl q1484 qs46 q1482 q109 q1485 hy_X6_number rfl dX6_change_34 rfl rfl (Nat.le_of_ble_eq_true rfl) ⟨Nat.le_of_ble_eq_true rfl, Nat.le_of_ble_eq_true rfl⟩ ⟨Nat.le_of_ble_eq_true rfl, Nat.le_of_ble_eq_true rfl⟩ ?_
  refine r_istore X dX6_change_37 (hL 5 (by decide)) (lv' := [(5, iv (r62)), (4, iv (r55)), (3, iv (r48)), (0, .ref (a0)), (1, iv (x1)), (2, iv (x2))]) rfl ?_
  refine r_aload_n X 3 dX6_change_39 rfl rfl ?_
  obtain ⟨ho64, h⟩ := cO_some h
  refine r_getI (kf := 4) X ho64.1 rfl (by decide) rfl (Or.inl q1245) dX6_change_40 ?_
  refine r_iconst X dX6_change_43 ?_
  refine r_icmp_ne (tgt := 85) X dX6_change_44 (by decide) h (fun c65 h => ?_) (fun c65 h => ?_)
  · refine r_iload X 0 dX6_change_47 rfl ?_
    refine r_aload_n X 3 dX6_change_49 rfl rfl ?_
    refine r_iload_n X 5 dX6_change_50 rfl rfl ?_
    refine r_iconst X dX6_change_51 ?_
    refine r_isub X dX6_change_52 ?_
    refine r_iload_n X 2 dX6_change_53 rfl rfl ?_
    refine r_iload X 1 dX6_change_54 rfl ?_
    obtain ⟨r67, h66, h⟩ := bd_some h
    refine r_cV (Wd := 1) X (fun l D sz => w_X6_daysOf l D sz h66) ho64.1 rfl q1537 qs57 q1535 q109 q1538 hy_X6_daysOf rfl dX6_change_56 rfl rfl (Nat.le_of_ble_eq_true rfl) ⟨Nat.le_of_ble_eq_true rfl, Nat.le_of_ble_eq_true rfl⟩ ⟨Nat.le_of_ble_eq_true rfl, Nat.le_of_ble_eq_true rfl⟩ ?_
    refine r_icmp_gt (tgt := 81) X dX6_change_59 (by decide) h (fun c68 h => ?_) (fun c68 h => ?_)
    · exact V.sub [3, 4, 5, 2, 1, 0] rfl (J81 (r48) (r55) (r62) (σ63) h)
    · refine r_iload_n X 2 dX6_change_62 rfl rfl ?_
      refine r_iload X 1 dX6_change_63 rfl ?_
      refine r_iload X 0 dX6_change_65 rfl ?_
      obtain ⟨r70, h69, h⟩ := bd_some h
      refine r_cS (Wd := 0) X (fun l D sz => w_X6_code l D sz h69) q1529 q1528 q109 q1530 hy_X6_code rfl dX6_change_67 rfl rfl (Nat.le_of_ble_eq_true rfl) ⟨Nat.le_of_ble_eq_true rfl, Nat.le_of_ble_eq_true rfl⟩ ⟨Nat.le_of_ble_eq_true rfl, Nat.le_of_ble_eq_true rfl⟩ ?_
      refine r_aload_n X 3 dX6_change_70 rfl rfl ?_
      refine r_getA (kf := 11) X ho64.1 rfl (by decide) (by decide) (Or.inl q1252) dX6_change_71 ?_
      refine r_iload_n X 5 dX6_change_74 rfl rfl ?_
      refine r_iconst X dX6_change_75 ?_
      refine r_isub X dX6_change_76 ?_
      refine r_iald X ho64.1 (ho64.2 11 (by decide)) rfl rfl rfl (by decide) dX6_change_77 h (fun h => ?_)
      refine r_icmp_ge (tgt := 85) X dX6_change_78 (by decide) h (fun c71 h => ?_) (fun c71 h => ?_)
      · exact V.sub [3, 4, 5, 2, 1, 0] rfl (J81 (r48) (r55) (r62) (σ63) h)
      · exact V.sub [3, 4, 5, 2, 1, 0] rfl (J85 (r48) (r55) (r62) (σ63) h)
  · exact V.sub [3, 4, 5, 2, 1, 0] rfl (J85 (r48) (r55) (r62) (σ63) h)
