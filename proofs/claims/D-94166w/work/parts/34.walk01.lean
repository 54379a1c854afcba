/-! walks (printed by gen.py) -/
set_option maxRecDepth 100000
theorem hy_J0_init : yJ0_init.cls ≠ "java/lang/invoke/MethodHandle" ∧ yJ0_init.cls ≠ "java/lang/invoke/VarHandle" ∧ (parseMethodDescriptor yJ0_init.desc).map (fun d => d.parameters.length) = some 0 := by decide +kernel
set_option maxHeartbeats 4000000 in
theorem w_J0_init (l : Launch) (D : DD) (sz : Nat) {σ : St} {a0 : Nat} {w : St} (h : f_J0_init σ a0 = some w) : Mt l yJ0_init cJ0_init 1 none ({ frames := 1, cells := 0, slots := 0, locals := 12 } : Room) D sz σ [.ref a0] (.returned none) (w) 0 0 := by
  refine Mt.of (by decide +kernel) (Nat.le_of_ble_eq_true rfl) ?_
  intro Γ X hr hnl hini hnoh
  have X : Cx Γ cJ0_init "java/lang/Throwable" _ := X
  have hL : ∀ i, i < 1 → i < nLc Γ := fun i q => by rw [hnl]; exact q
  have hini := hini rfl
  show V Γ σ 0 0 0 [(0, .ref (a0))] []
  unfold f_J0_init at h
  obtain ⟨hc0, h⟩ := ck_some h
  refine r_aload_n X 0 dJ0_init_0 rfl rfl ?_
  refine r_objInit X q481 q133 q134 dJ0_init_1 (by decide) (Nat.le_of_ble_eq_true rfl) ?_
  refine r_aload_n X 0 dJ0_init_4 rfl rfl ?_
  refine r_aload_n X 0 dJ0_init_5 rfl rfl ?_
  refine r_putU (kf := 0) X hc0 rfl (by decide) rfl (Or.inl q512) dJ0_init_6 rfl rfl rfl ?_
  refine r_aload_n X 0 dJ0_init_9 rfl rfl ?_
  refine r_gets1 X q482 dJ0_init_10 (fun g1 => ?_)
  refine r_putU (kf := 1) X hc0 rfl (by decide) rfl (Or.inl q513) dJ0_init_13 rfl (by cases g1 <;> rfl) (by cases g1 <;> rfl) ?_
  refine r_aload_n X 0 dJ0_init_16 rfl rfl ?_
  refine r_gets2 X q484 dJ0_init_17 (fun g2 => ?_)
  refine r_putU (kf := 2) X hc0 rfl (by decide) rfl (Or.inl q514) dJ0_init_20 rfl (by cases g2 <;> rfl) (by cases g2 <;> rfl) ?_
  refine r_aload_n X 0 dJ0_init_23 rfl rfl ?_
  cases h
theorem hy_J0_init_2 : yJ0_init_2.cls ≠ "java/lang/invoke/MethodHandle" ∧ yJ0_init_2.cls ≠ "java/lang/invoke/VarHandle" ∧ (parseMethodDescriptor yJ0_init_2.desc).map (fun d => d.parameters.length) = some 4 := by decide +kernel
set_option maxHeartbeats 4000000 in
theorem w_J0_init_2 (l : Launch) (D : DD) (sz : Nat) {σ : St} {a0 : Nat} {p1 : Option Nat} {p2 : Option Nat} {x3 : Int} {x4 : Int} {w : St} (h : f_J0_init_2 σ a0 p1 p2 x3 x4 = some w) : Mt l yJ0_init_2 cJ0_init_2 5 none ({ frames := 1, cells := 0, slots := 0, locals := 12 } : Room) D sz σ [.ref a0, va_rf (p1), va_rf (p2), iv (x3), iv (x4)] (.returned none) (w) 0 0 := by
  refine Mt.of (by decide +kernel) (by cases p1 <;> cases p2 <;> exact Nat.le_of_ble_eq_true rfl) ?_
  intro Γ X hr hnl hini hnoh
  have X : Cx Γ cJ0_init_2 "java/lang/Throwable" _ := X
  have hL : ∀ i, i < 5 → i < nLc Γ := fun i q => by rw [hnl]; exact q
  have hini := hini rfl
  have ea : lv_args 0 [.ref a0, va_rf (p1), va_rf (p2), iv (x3), iv (x4)] = [(0, .ref (a0)), (1, va_rf (p1)), (2, va_rf (p2)), (3, iv (x3)), (4, iv (x4))] := by cases p1 <;> cases p2 <;> rfl
  rw [ea]
  show V Γ σ 0 0 0 [(0, .ref (a0)), (1, va_rf (p1)), (2, va_rf (p2)), (3, iv (x3)), (4, iv (x4))] []
  unfold f_J0_init_2 at h
  obtain ⟨hc0, h⟩ := ck_some h
  have J41 : ∀ (σ_j41 : St), f_J0_init_2_j41 (a0) (p1) (p2) (x3) σ_j41 = some w → V Γ σ_j41 0 0 41 [(0, .ref (a0)), (1, va_rf (p1)), (2, va_rf (p2)), (3, iv (x3))] [] := by
    intro σ_j41 h
    unfold f_J0_init_2_j41 at h
    refine r_aload_n X 0 dJ0_init_2_41 rfl rfl ?_
    refine r_aload_nq X 1 dJ0_init_2_42 rfl rfl ?_
    obtain ⟨ho1, h⟩ := cO_some h
    refine r_putU (kf := 3) X ho1.1 rfl (by decide) rfl (Or.inl q511) dJ0_init_2_43 rfl (by cases p1 <;> rfl) (by cases p1 <;> rfl) ?_
    refine r_aload_n X 0 dJ0_init_2_46 rfl rfl ?_
    refine r_aload_nq X 2 dJ0_init_2_47 rfl rfl ?_
    refine r_putU (kf := 0) X ho1.1 rfl (by decide) rfl (Or.inl q512) dJ0_init_2_48 rfl (by cases p2 <;> rfl) (by cases p2 <;> rfl) ?_
    refine r_iload_n X 3 dJ0_init_2_51 rfl rfl ?_
    refine r_if_ne (tgt := 60) X dJ0_init_2_52 (by decide) h (fun c2 h => ?_) (fun c2 h => ?_)
    · refine r_aload_n X 0 dJ0_init_2_55 rfl rfl ?_
      refine r_null X dJ0_init_2_56 ?_
      refine r_putU (kf := 2) X ho1.1 rfl (by decide) rfl (Or.inl q514) dJ0_init_2_57 rfl rfl rfl ?_
      cases h
      exact r_vret X hr dJ0_init_2_60
    · cases h
      exact r_vret X hr dJ0_init_2_60
  refine r_aload_n X 0 dJ0_init_2_0 rfl rfl ?_
  refine r_objInit X q481 q133 q134 dJ0_init_2_1 (by decide) (Nat.le_of_ble_eq_true rfl) ?_
  refine r_aload_n X 0 dJ0_init_2_4 rfl rfl ?_
  refine r_aload_n X 0 dJ0_init_2_5 rfl rfl ?_
  refine r_putU (kf := 0) X hc0 rfl (by decide) rfl (Or.inl q512) dJ0_init_2_6 rfl rfl rfl ?_
  refine r_aload_n X 0 dJ0_init_2_9 rfl rfl ?_
  refine r_gets1 X q482 dJ0_init_2_10 (fun g3 => ?_)
  refine r_putU (kf := 1) X hc0 rfl (by decide) rfl (Or.inl q513) dJ0_init_2_13 rfl (by cases g3 <;> rfl) (by cases g3 <;> rfl) ?_
  refine r_aload_n X 0 dJ0_init_2_16 rfl rfl ?_
  refine r_gets2 X q484 dJ0_init_2_17 (fun g4 => ?_)
  refine r_putU (kf := 2) X hc0 rfl (by decide) rfl (Or.inl q514) dJ0_init_2_20 rfl (by cases g4 <;> rfl) (by cases g4 <;> rfl) ?_
  refine r_iload X 4 dJ0_init_2_23 rfl ?_
  refine r_if_eq (tgt := 36) X dJ0_init_2_25 (by decide) h (fun c5 h => ?_) (fun c5 h => ?_)
  · refine r_aload_n X 0 dJ0_init_2_36 rfl rfl ?_
    refine r_null X dJ0_init_2_37 ?_
    refine r_putU (kf := 1) X hc0 rfl (by decide) rfl (Or.inl q513) dJ0_init_2_38 rfl rfl rfl ?_
    exact V.sub [0, 1, 2, 3] rfl (J41 (σ) h)
  · refine r_aload_n X 0 dJ0_init_2_28 rfl rfl ?_
    cases h
theorem hy_J1_init : yJ1_init.cls ≠ "java/lang/invoke/MethodHandle" ∧ yJ1_init.cls ≠ "java/lang/invoke/VarHandle" ∧ (parseMethodDescriptor yJ1_init.desc).map (fun d => d.parameters.length) = some 4 := by decide +kernel
set_option maxHeartbeats 4000000 in
theorem w_J1_init (l : Launch) (D : DD) (sz : Nat) {σ : St} {a0 : Nat} {p1 : Option Nat} {p2 : Option Nat} {x3 : Int} {x4 : Int} {w : St} (h : f_J1_init σ a0 p1 p2 x3 x4 = some w) : Mt l yJ1_init cJ1_init 5 none ({ frames := 2, cells := 0, slots := 0, locals := 28 } : Room) D sz σ [.ref a0, va_rf (p1), va_rf (p2), iv (x3), iv (x4)] (.returned none) (w) 0 0 := by
  refine Mt.of (by decide +kernel) (by cases p1 <;> cases p2 <;> exact Nat.le_of_ble_eq_true rfl) ?_
  intro Γ X hr hnl hini hnoh
  have X : Cx Γ cJ1_init "java/lang/Exception" _ := X
  have hL : ∀ i, i < 5 → i < nLc Γ := fun i q => by rw [hnl]; exact q
  have hini := hini rfl
  have ea : lv_args 0 [.ref a0, va_rf (p1), va_rf (p2), iv (x3), iv (x4)] = [(0, .ref (a0)), (1, va_rf (p1)), (2, va_rf (p2)), (3, iv (x3)), (4, iv (x4))] := by cases p1 <;> cases p2 <;> rfl
  rw [ea]
  show V Γ σ 0 0 0 [(0, .ref (a0)), (1, va_rf (p1)), (2, va_rf (p2)), (3, iv (x3)), (4, iv (x4))] []
  unfold f_J1_init at h
  obtain ⟨hc0, h⟩ := ck_some h
  refine r_aload_n X 0 dJ1_init_0 rfl rfl ?_
  refine r_aload_nq X 1 dJ1_init_1 rfl rfl ?_
  refine r_aload_nq X 2 dJ1_init_2 rfl rfl ?_
  refine r_iload_n X 3 dJ1_init_3 rfl rfl ?_
  refine r_iload X 4 dJ1_init_4 rfl ?_
  obtain ⟨σ2, h1, h⟩ := bd_some h
  refine r_cI (Wd := 0) X (fun l D sz => w_J0_init_2 l D sz h1) rfl rfl q506 q505 q111 q507 hy_J0_init_2 rfl dJ1_init_6 rfl rfl (Nat.le_of_ble_eq_true rfl) ⟨Nat.le_of_ble_eq_true rfl, Nat.le_of_ble_eq_true rfl⟩ ⟨Nat.le_of_ble_eq_true rfl, Nat.le_of_ble_eq_true rfl⟩ ?_
  cases h
  exact r_vret X hr dJ1_init_9
theorem hy_J1_init_2 : yJ1_init_2.cls ≠ "java/lang/invoke/MethodHandle" ∧ yJ1_init_2.cls ≠ "java/lang/invoke/VarHandle" ∧ (parseMethodDescriptor yJ1_init_2.desc).map (fun d => d.parameters.length) = some 0 := by decide +kernel
set_option maxHeartbeats 4000000 in
theorem w_J1_init_2 (l : Launch) (D : DD) (sz : Nat) {σ : St} {a0 : Nat} {w : St} (h : f_J1_init_2 σ a0 = some w) : Mt l yJ1_init_2 cJ1_init_2 1 none ({ frames := 2, cells := 0, slots := 0, locals := 24 } : Room) D sz σ [.ref a0] (.returned none) (w) 0 0 := by
  refine Mt.of (by decide +kernel) (Nat.le_of_ble_eq_true rfl) ?_
  intro Γ X hr hnl hini hnoh
  have X : Cx Γ cJ1_init_2 "java/lang/Exception" _ := X
  have hL : ∀ i, i < 1 → i < nLc Γ := fun i q => by rw [hnl]; exact q
  have hini := hini rfl
  show V Γ σ 0 0 0 [(0, .ref (a0))] []
  unfold f_J1_init_2 at h
  obtain ⟨hc0, h⟩ := ck_some h
  refine r_aload_n X 0 dJ1_init_2_0 rfl rfl ?_
  obtain ⟨σ2, h1, h⟩ := bd_some h
  refine r_cI (Wd := 0) X (fun l D sz => w_J0_init l D sz h1) rfl rfl q479 q1230 q111 q480 hy_J0_init rfl dJ1_init_2_1 rfl rfl (Nat.le_of_ble_eq_true rfl) ⟨Nat.le_of_ble_eq_true rfl, Nat.le_of_ble_eq_true rfl⟩ ⟨Nat.le_of_ble_eq_true rfl, Nat.le_of_ble_eq_true rfl⟩ ?_
  cases h
  exact r_vret X hr dJ1_init_2_4
theorem hy_J2_init : yJ2_init.cls ≠ "java/lang/invoke/MethodHandle" ∧ yJ2_init.cls ≠ "java/lang/invoke/VarHandle" ∧ (parseMethodDescriptor yJ2_init.desc).map (fun d => d.parameters.length) = some 4 := by decide +kernel
set_option maxHeartbeats 4000000 in
theorem w_J2_init (l : Launch) (D : DD) (sz : Nat) {σ : St} {a0 : Nat} {p1 : Option Nat} {p2 : Option Nat} {x3 : Int} {x4 : Int} {w : St} (h : f_J2_init σ a0 p1 p2 x3 x4 = some w) : Mt l yJ2_init cJ2_init 5 none ({ frames := 3, cells := 0, slots := 0, locals := 44 } : Room) D sz σ [.ref a0, va_rf (p1), va_rf (p2), iv (x3), iv (x4)] (.returned none) (w) 0 0 := by
  refine Mt.of (by decide +kernel) (by cases p1 <;> cases p2 <;> exact Nat.le_of_ble_eq_true rfl) ?_
  intro Γ X hr hnl hini hnoh
  have X : Cx Γ cJ2_init "java/lang/RuntimeException" _ := X
  have hL : ∀ i, i < 5 → i < nLc Γ := fun i q => by rw [hnl]; exact q
  have hini := hini rfl
  have ea : lv_args 0 [.ref a0, va_rf (p1), va_rf (p2), iv (x3), iv (x4)] = [(0, .ref (a0)), (1, va_rf (p1)), (2, va_rf (p2)), (3, iv (x3)), (4, iv (x4))] := by cases p1 <;> cases p2 <;> rfl
  rw [ea]
  show V Γ σ 0 0 0 [(0, .ref (a0)), (1, va_rf (p1)), (2, va_rf (p2)), (3, iv (x3)), (4, iv (x4))] []
  unfold f_J2_init at h
  obtain ⟨hc0, h⟩ := ck_some h
  refine r_aload_n X 0 dJ2_init_0 rfl rfl ?_
  refine r_aload_nq X 1 dJ2_init_1 rfl rfl ?_
  refine r_aload_nq X 2 dJ2_init_2 rfl rfl ?_
  refine r_iload_n X 3 dJ2_init_3 rfl rfl ?_
  refine r_iload X 4 dJ2_init_4 rfl ?_
  obtain ⟨σ2, h1, h⟩ := bd_some h
  refine r_cI (Wd := 0) X (fun l D sz => w_J1_init l D sz h1) rfl rfl q503 q502 q112 q504 hy_J1_init rfl dJ2_init_6 rfl rfl (Nat.le_of_ble_eq_true rfl) ⟨Nat.le_of_ble_eq_true rfl, Nat.le_of_ble_eq_true rfl⟩ ⟨Nat.le_of_ble_eq_true rfl, Nat.le_of_ble_eq_true rfl⟩ ?_
  cases h
  exact r_vret X hr dJ2_init_9
theorem hy_J2_init_2 : yJ2_init_2.cls ≠ "java/lang/invoke/MethodHandle" ∧ yJ2_init_2.cls ≠ "java/lang/invoke/VarHandle" ∧ (parseMethodDescriptor yJ2_init_2.desc).map (fun d => d.parameters.length) = some 0 := by decide +kernel
set_option maxHeartbeats 4000000 in
theorem w_J2_init_2 (l : Launch) (D : DD) (sz : Nat) {σ : St} {a0 : Nat} {w : St} (h : f_J2_init_2 σ a0 = some w) : Mt l yJ2_init_2 cJ2_init_2 1 none ({ frames := 3, cells := 0, slots := 0, locals := 36 } : Room) D sz σ [.ref a0] (.returned none) (w) 0 0 := by
  refine Mt.of (by decide +kernel) (Nat.le_of_ble_eq_true rfl) ?_
  intro Γ X hr hnl hini hnoh
  have X : Cx Γ cJ2_init_2 "java/lang/RuntimeException" _ := X
  have hL : ∀ i, i < 1 → i < nLc Γ := fun i q => by rw [hnl]; exact q
  have hini := hini rfl
  show V Γ σ 0 0 0 [(0, .ref (a0))] []
  unfold f_J2_init_2 at h
  obtain ⟨hc0, h⟩ := ck_some h
  refine r_aload_n X 0 dJ2_init_2_0 rfl rfl ?_
  obtain ⟨σ2, h1, h⟩ := bd_some h
  refine r_cI (Wd := 0) X (fun l D sz => w_J1_init_2 l D sz h1) rfl rfl q1228 q1227 q112 q1229 hy_J1_init_2 rfl dJ2_init_2_1 rfl rfl (Nat.le_of_ble_eq_true rfl) ⟨Nat.le_of_ble_eq_true rfl, Nat.le_of_ble_eq_true rfl⟩ ⟨Nat.le_of_ble_eq_true rfl, Nat.le_of_ble_eq_true rfl⟩ ?_
  cases h
  exact r_vret X hr dJ2_init_2_4
theorem hy_X1_day : yX1_day.cls ≠ "java/lang/invoke/MethodHandle" ∧ yX1_day.cls ≠ "java/lang/invoke/VarHandle" ∧ (parseMethodDescriptor yX1_day.desc).map (fun d => d.parameters.length) = some 4 := by decide +kernel
set_option maxHeartbeats 4000000 in
theorem w_X1_day (l : Launch) (hl : l.stackTraces = false) (D : DD) (sz : Nat) {σ : St} {a0 : Nat} {x1 : Int} {x2 : Int} {x3 : Int} {x4 : Int} {w : (Int × St) ⊕ (Nat × St)} (h : f_X1_day σ a0 x1 x2 x3 x4 = some w) : Mt l yX1_day cX1_day 5 (some FieldType.int) ({ frames := 8, cells := 1, slots := 6, locals := 123 } : Room) D sz σ [.ref a0, iv (x1), iv (x2), iv (x3), iv (x4)] (Sum.elim (fun q => Outcome.returned (some (iv q.1))) (fun q => Outcome.threw q.1) w) (Sum.elim (fun q => q.2) (fun q => q.2) w) (Sum.elim (fun _ => 0) (fun _ => 1) w) (Sum.elim (fun _ => 0) (fun _ => 6) w) := by
  refine Mt.ofL (by decide +kernel) (Nat.le_of_ble_eq_true rfl) ?_
  intro Γ X hr hnl hini hnoh hlo
  have htr : (lOf Γ).stackTraces = false := by rw [hlo]; exact hl
  have X : Cx Γ cX1_day "DayBoy" _ := X
  have hL : ∀ i, i < 5 → i < nLc Γ := fun i q => by rw [hnl]; exact q
  show V Γ σ 0 0 0 [(0, .ref (a0)), (1, iv (x1)), (2, iv (x2)), (3, iv (x3)), (4, iv (x4))] []
  unfold f_X1_day at h
  obtain ⟨ho0, h⟩ := cO_some h
  refine r_aload_n X 0 dX1_day_0 rfl rfl ?_
  refine r_iload_n X 1 dX1_day_1 rfl rfl ?_
  refine r_iload_n X 2 dX1_day_2 rfl rfl ?_
  refine r_iload_n X 3 dX1_day_3 rfl rfl ?_
  refine r_iload X 4 dX1_day_4 rfl ?_
  obtain ⟨r2, h1, h⟩ := bd_some h
  refine r_cV (Wd := 0) X (fun l D sz => w_X1_isDate l D sz h1) ho0.1 rfl q790 qs24 q788 q104 q791 hy_X1_isDate rfl dX1_day_6 rfl rfl (Nat.le_of_ble_eq_true rfl) ⟨Nat.le_of_ble_eq_true rfl, Nat.le_of_ble_eq_true rfl⟩ ⟨Nat.le_of_ble_eq_true rfl, Nat.le_of_ble_eq_true rfl⟩ ?_
  refine r_if_ne (tgt := 20) X dX1_day_9 (by decide) h (fun c3 h => ?_) (fun c3 h => ?_)
  · refine r_nse X htr q1212 q1221 dX1_day_12 dX1_day_15 dX1_day_16 (Nat.le_of_ble_eq_true rfl) (Nat.le_of_ble_eq_true rfl) (Nat.le_of_ble_eq_true rfl) (Nat.le_of_ble_eq_true rfl) ?_
    refine r_let h (fun σ4 eσ4 h => ?_)
    have hk5 : cL σ4 (nX (σ)) = some 14 := by rw [eσ4, cL_nO, if_pos rfl]
    refine r_athrow X dX1_day_19 ?_
    cases h
    exact r_out X hnoh hr
  · refine r_aload_n X 0 dX1_day_20 rfl rfl ?_
    refine r_getA (kf := 4) X ho0.1 rfl (by decide) (by decide) (Or.inl q310) dX1_day_21 ?_
    refine r_iload_n X 1 dX1_day_24 rfl rfl ?_
    refine r_aald X ho0.1 (ho0.2 4 (by decide)) rfl rfl (by decide) rfl (by decide) dX1_day_25 h (fun b6 h => ?_)
    refine r_iload_n X 2 dX1_day_26 rfl rfl ?_
    refine r_iload_n X 3 dX1_day_27 rfl rfl ?_
    refine r_iload X 4 dX1_day_28 rfl ?_
    obtain ⟨ho8, h⟩ := cO_some h
    obtain ⟨r9, h7, h⟩ := bd_some h
    refine r_cV (Wd := 0) X (fun l D sz => w_X2_day l D sz h7) ho8.1 rfl q811 q812 q810 q105 q813 hy_X2_day rfl dX1_day_30 rfl rfl (Nat.le_of_ble_eq_true rfl) ⟨Nat.le_of_ble_eq_true rfl, Nat.le_of_ble_eq_true rfl⟩ ⟨Nat.le_of_ble_eq_true rfl, Nat.le_of_ble_eq_true rfl⟩ ?_
    cases h
    exact r_iret X hr dX1_day_33
theorem hy_X0_day : yX0_day.cls ≠ "java/lang/invoke/MethodHandle" ∧ yX0_day.cls ≠ "java/lang/invoke/VarHandle" ∧ (parseMethodDescriptor yX0_day.desc).map (fun d => d.parameters.length) = some 6 := by decide +kernel
set_option maxHeartbeats 4000000 in
theorem w_X0_day (l : Launch) (hl : l.stackTraces = false) (D : DD) (sz : Nat) {σ : St} {p0 : Nat} {x1 : Int} {x2 : Int} {x3 : Int} {x4 : Int} {p5 : Nat} {w : Int × St} (h : f_X0_day σ p0 x1 x2 x3 x4 p5 = some w) : MtW l yX0_day cX0_day 7 (some FieldType.int) [(0, 14, 17, 13)] ({ frames := 9, cells := 1, slots := 6, locals := 141 } : Room) D sz σ [.ref (p0), iv (x1), iv (x2), iv (x3), iv (x4), va_rf (aR (σ) (p5) 200)] (.returned (some (iv w.1))) (w.2) 1 6 := by
  refine MtW.ofL (by decide +kernel) (by cases (aR σ p5 200) <;> exact Nat.le_of_ble_eq_true rfl) ?_
  intro Γ X hr hnl hnoh hlo
  have htr : (lOf Γ).stackTraces = false := by rw [hlo]; exact hl
  have X : Cx Γ cX0_day "DayBoyLaw" _ := X
  have hL : ∀ i, i < 7 → i < nLc Γ := fun i q => by rw [hnl]; exact q
  have ea : lv_args 0 [.ref (p0), iv (x1), iv (x2), iv (x3), iv (x4), va_rf (aR (σ) (p5) 200)] = [(0, .ref (p0)), (1, iv (x1)), (2, iv (x2)), (3, iv (x3)), (4, iv (x4)), (5, va_rf (aR (σ) (p5) 200))] := by cases (aR σ p5 200) <;> rfl
  rw [ea]
  show V Γ σ 0 0 0 [(0, .ref (p0)), (1, iv (x1)), (2, iv (x2)), (3, iv (x3)), (4, iv (x4)), (5, va_rf (aR (σ) (p5) 200))] []
  unfold f_X0_day at h
  refine r_aload_q X 5 dX0_day_0 rfl ?_
  refine r_iconst X dX0_day_2 ?_
  refine r_aload_n X 0 dX0_day_3 rfl rfl ?_
  refine r_iload_n X 1 dX0_day_4 rfl rfl ?_
  refine r_iload_n X 2 dX0_day_5 rfl rfl ?_
  refine r_iload_n X 3 dX0_day_6 rfl rfl ?_
  refine r_iload X 4 dX0_day_7 rfl ?_
  obtain ⟨ho2, h⟩ := cO_some h
  rcases bT2_some h with ⟨r6, σ3, h1, h⟩ | ⟨xc4, σ5, h1, h⟩
  · refine r_cVL (σ' := σ3) (kc := 0) (ks := 0) (Wd := 2) X (fun D sz => w_X1_day (lOf Γ) htr D sz h1) ho2.1 rfl q1209 q1210 q1208 q104 q1211 hy_X1_day rfl dX0_day_9 rfl rfl (by simp only [List.map_cons, List.map_nil, cat_rf, cat_iv, cat_jv, cat_ref, List.sum_cons, List.sum_nil]; decide) ⟨Nat.le_of_ble_eq_true rfl, Nat.le_of_ble_eq_true rfl⟩ ⟨Nat.le_of_ble_eq_true rfl, Nat.le_of_ble_eq_true rfl⟩ ?_
    obtain ⟨c7, h⟩ := ck_some h
    refine r_i2l X dX0_day_12 c7 ?_
    obtain ⟨ho8, h⟩ := cO_some h
    obtain ⟨hi9, h⟩ := ck_some h
    obtain ⟨hv10, h⟩ := ck_some h
    rw [← hv10]
    refine r_last X ho8.1 hi9 rfl rfl rfl (by decide) dX0_day_13 h (fun h => ?_)
    refine r_let h (fun σ11 eσ11 h => ?_)
    refine r_goto (tgt := 21) X dX0_day_14 (by decide) ?_
    refine r_iconst X dX0_day_21 ?_
    cases h
    exact V.widen (Nat.le_of_ble_eq_true rfl) (Nat.le_of_ble_eq_true rfl) <| r_iret X hr dX0_day_22
  · refine r_tVL (σ' := σ5) (kc := 1) (ks := 6) (Wd := 2) X (fun D sz => w_X1_day (lOf Γ) htr D sz h1) ho2.1 rfl q1209 q1210 q1208 q104 q1211 hy_X1_day rfl dX0_day_9 rfl (by simp only [List.map_cons, List.map_nil, cat_rf, cat_iv, cat_jv, cat_ref, List.sum_cons, List.sum_nil]; decide) ⟨Nat.le_of_ble_eq_true rfl, Nat.le_of_ble_eq_true rfl⟩ ⟨Nat.le_of_ble_eq_true rfl, Nat.le_of_ble_eq_true rfl⟩ ?_
    obtain ⟨ho12, h⟩ := cO_some h
    refine r_catch X hnoh (by decide) (by decide) ho12.1 rfl q1207 ?_
    refine V.sub [0, 1, 2, 3, 4] rfl (lv' := [(0, .ref (p0)), (1, iv (x1)), (2, iv (x2)), (3, iv (x3)), (4, iv (x4))]) ?_
    refine r_astore X dX0_day_17 (hL 6 (by decide)) (lv' := [(6, .ref (xc4)), (0, .ref (p0)), (1, iv (x1)), (2, iv (x2)), (3, iv (x3)), (4, iv (x4))]) rfl ?_
    refine r_iconst X dX0_day_19 ?_
    cases h
    exact r_iret X hr dX0_day_20
theorem hy_X7_init : yX7_init.cls ≠ "java/lang/invoke/MethodHandle" ∧ yX7_init.cls ≠ "java/lang/invoke/VarHandle" ∧ (parseMethodDescriptor yX7_init.desc).map (fun d => d.parameters.length) = some 1 := by decide +kernel
set_option maxHeartbeats 4000000 in
theorem w_X7_init (l : Launch) (D : DD) (sz : Nat) {σ : St} {a0 : Nat} {p1 : Nat} {w : St} (h : f_X7_init σ a0 p1 = some w) : Mt l yX7_init cX7_init 2 none ({ frames := 1, cells := 0, slots := 0, locals := 12 } : Room) D sz σ [.ref a0, .ref (p1)] (.returned none) (w) 0 0 := by
  refine Mt.of (by decide +kernel) (Nat.le_of_ble_eq_true rfl) ?_
  intro Γ X hr hnl hini hnoh
  have X : Cx Γ cX7_init "DayBoy$Reader" _ := X
  have hL : ∀ i, i < 2 → i < nLc Γ := fun i q => by rw [hnl]; exact q
  have hini := hini rfl
  show V Γ σ 0 0 0 [(0, .ref (a0)), (1, .ref (p1))] []
  unfold f_X7_init at h
  obtain ⟨hc0, h⟩ := ck_some h
  refine r_aload_n X 0 dX7_init_0 rfl rfl ?_
  refine r_aload_n X 1 dX7_init_1 rfl rfl ?_
  refine r_putPF (kf := 2) X hini hc0 rfl (by decide) rfl rfl q424 rfl dX7_init_2 rfl ?_
  refine r_let h (fun σ1 eσ1 h => ?_)
  refine r_aload_n X 0 dX7_init_5 rfl rfl ?_
  refine r_objInit X q421 q133 q134 dX7_init_6 (by decide) (Nat.le_of_ble_eq_true rfl) ?_
  cases h
  exact r_vret X hr dX7_init_9
theorem hy_X7_here : yX7_here.cls ≠ "java/lang/invoke/MethodHandle" ∧ yX7_here.cls ≠ "java/lang/invoke/VarHandle" ∧ (parseMethodDescriptor yX7_here.desc).map (fun d => d.parameters.length) = some 0 := by decide +kernel
set_option maxHeartbeats 4000000 in
theorem w_X7_here (l : Launch) (D : DD) (sz : Nat) {σ : St} {a0 : Nat} {w : Int} (h : f_X7_here σ a0 = some w) : Mt l yX7_here cX7_here 1 (some FieldType.int) ({ frames := 0, cells := 0, slots := 0, locals := 0 } : Room) D sz σ [.ref a0] (.returned (some (iv w))) (σ) 0 0 := by
  refine Mt.of (by decide +kernel) (Nat.le_of_ble_eq_true rfl) ?_
  intro Γ X hr hnl hini hnoh
  have X : Cx Γ cX7_here "DayBoy$Reader" _ := X
  have hL : ∀ i, i < 1 → i < nLc Γ := fun i q => by rw [hnl]; exact q
  show V Γ σ 0 0 0 [(0, .ref (a0))] []
  unfold f_X7_here at h
  obtain ⟨ho0, h⟩ := cO_some h
  refine r_aload_n X 0 dX7_here_0 rfl rfl ?_
  refine r_getI (kf := 0) X ho0.1 rfl (by decide) rfl (Or.inl q422) dX7_here_1 ?_
  refine r_aload_n X 0 dX7_here_4 rfl rfl ?_
  refine r_getP (kf := 2) X ho0.1 rfl (by decide) rfl (Or.inl q424) dX7_here_5 h (fun b1 h => ?_)
  obtain ⟨ho2, h⟩ := cO_some h
  refine r_getI (kf := 1) X ho2.1 rfl (by decide) rfl (Or.inr ⟨_, q304⟩) dX7_here_8 ?_
  refine r_icmp_ge (tgt := 33) X dX7_here_11 (by decide) h (fun c3 h => ?_) (fun c3 h => ?_)
  · refine r_aload_n X 0 dX7_here_14 rfl rfl ?_
    refine r_getP (kf := 2) X ho0.1 rfl (by decide) rfl (Or.inl q424) dX7_here_15 h (fun b4 h => ?_)
    obtain ⟨ho5, h⟩ := cO_some h
    refine r_getA (kf := 0) X ho5.1 rfl (by decide) (by decide) (Or.inr ⟨_, q303⟩) dX7_here_18 ?_
    refine r_aload_n X 0 dX7_here_21 rfl rfl ?_
    refine r_getI (kf := 0) X ho0.1 rfl (by decide) rfl (Or.inl q422) dX7_here_22 ?_
    refine r_bald X ho5.1 (ho5.2 0 (by decide)) rfl rfl rfl (by decide) dX7_here_25 h (fun h => ?_)
    refine r_sipush X dX7_here_26 (by decide) ?_
    refine r_iand X dX7_here_29 ?_
    refine r_goto (tgt := 34) X dX7_here_30 (by decide) ?_
    cases h
    exact r_iret X hr dX7_here_34
  · refine r_iconst X dX7_here_33 ?_
    cases h
    exact r_iret X hr dX7_here_34
theorem hy_X7_look : yX7_look.cls ≠ "java/lang/invoke/MethodHandle" ∧ yX7_look.cls ≠ "java/lang/invoke/VarHandle" ∧ (parseMethodDescriptor yX7_look.desc).map (fun d => d.parameters.length) = some 0 := by decide +kernel
set_option maxHeartbeats 4000000 in
theorem w_X7_look (l : Launch) (D : DD) (sz : Nat) {σ : St} {a0 : Nat} {w : Int × St} (h : f_X7_look σ a0 = some w) : Mt l yX7_look cX7_look 1 (some FieldType.int) ({ frames := 1, cells := 0, slots := 0, locals := 12 } : Room) D sz σ [.ref a0] (.returned (some (iv w.1))) (w.2) 0 0 := by
  refine Mt.of (by decide +kernel) (Nat.le_of_ble_eq_true rfl) ?_
  intro Γ X hr hnl hini hnoh
  have X : Cx Γ cX7_look "DayBoy$Reader" _ := X
  have hL : ∀ i, i < 1 → i < nLc Γ := fun i q => by rw [hnl]; exact q
  show V Γ σ 0 0 0 [(0, .ref (a0))] []
  unfold f_X7_look at h
  obtain ⟨ho0, h⟩ := cO_some h
  have L0 : ∀ s : St, lp (fun s => f_X7_look_b0 (a0) s) s = some w → V Γ (s) 0 0 0 [(0, .ref (a0))] [] := by
    refine lp_rule (P := fun s : St => V Γ (s) 0 0 0 [(0, .ref (a0))] []) ?_
    intro s z1 h ihb1 ihe1
    obtain ⟨σ_1, es⟩ : ∃ q, q = s := ⟨s, rfl⟩
    subst es
    have h : f_X7_look_b0 (a0) σ_1 = some z1 := h
    unfold f_X7_look_b0 at h
    show V Γ σ_1 0 0 0 [(0, .ref (a0))] []
    refine r_aload_n X 0 dX7_look_0 rfl rfl ?_
    obtain ⟨ho2, h⟩ := cO_some h
    obtain ⟨r3, h1, h⟩ := bd_some h
    refine r_cV (Wd := 0) X (fun l D sz => w_X7_here l D sz h1) ho2.1 rfl q446 qs3 q444 q110 q447 hy_X7_here rfl dX7_look_1 rfl rfl (Nat.le_of_ble_eq_true rfl) ⟨Nat.le_of_ble_eq_true rfl, Nat.le_of_ble_eq_true rfl⟩ ⟨Nat.le_of_ble_eq_true rfl, Nat.le_of_ble_eq_true rfl⟩ ?_
    refine r_bipush X dX7_look_4 (by decide) ?_
    refine r_icmp_ne (tgt := 22) X dX7_look_6 (by decide) h (fun c4 h => ?_) (fun c4 h => ?_)
    · refine r_aload_n X 0 dX7_look_9 rfl rfl ?_
      refine r_dup X dX7_look_10 rfl ?_
      refine r_getI (kf := 0) X ho2.1 rfl (by decide) rfl (Or.inl q422) dX7_look_11 ?_
      refine r_iconst X dX7_look_14 ?_
      refine r_iadd X dX7_look_15 ?_
      refine r_putI (kf := 0) X ho2.1 rfl (by decide) rfl rfl (Or.inl q422) dX7_look_16 rfl ?_
      refine r_let h (fun σ5 eσ5 h => ?_)
      refine r_goto (tgt := 0) X dX7_look_19 (by decide) ?_
      exact V.sub [0] rfl (ihb1 _ (Option.some.inj h).symm)
    · have h := ex_some h ihe1
      refine r_aload_n X 0 dX7_look_22 rfl rfl ?_
      obtain ⟨r7, h6, h⟩ := bd_some h
      refine r_cV (Wd := 0) X (fun l D sz => w_X7_here l D sz h6) ho2.1 rfl q446 qs3 q444 q110 q447 hy_X7_here rfl dX7_look_23 rfl rfl (Nat.le_of_ble_eq_true rfl) ⟨Nat.le_of_ble_eq_true rfl, Nat.le_of_ble_eq_true rfl⟩ ⟨Nat.le_of_ble_eq_true rfl, Nat.le_of_ble_eq_true rfl⟩ ?_
      cases h
      exact r_iret X hr dX7_look_26
  exact V.sub [0] rfl (L0 (σ) h)
theorem hy_X7_isDigit : yX7_isDigit.cls ≠ "java/lang/invoke/MethodHandle" ∧ yX7_isDigit.cls ≠ "java/lang/invoke/VarHandle" ∧ (parseMethodDescriptor yX7_isDigit.desc).map (fun d => d.parameters.length) = some 0 := by decide +kernel
set_option maxHeartbeats 4000000 in
theorem w_X7_isDigit (l : Launch) (D : DD) (sz : Nat) {σ : St} {a0 : Nat} {w : Int} (h : f_X7_isDigit σ a0 = some w) : Mt l yX7_isDigit cX7_isDigit 1 (some FieldType.boolean) ({ frames := 1, cells := 0, slots := 0, locals := 12 } : Room) D sz σ [.ref a0] (.returned (some (iv w))) (σ) 0 0 := by
  refine Mt.of (by decide +kernel) (Nat.le_of_ble_eq_true rfl) ?_
  intro Γ X hr hnl hini hnoh
  have X : Cx Γ cX7_isDigit "DayBoy$Reader" _ := X
  have hL : ∀ i, i < 1 → i < nLc Γ := fun i q => by rw [hnl]; exact q
  show V Γ σ 0 0 0 [(0, .ref (a0))] []
  unfold f_X7_isDigit at h
  obtain ⟨ho0, h⟩ := cO_some h
  refine r_aload_n X 0 dX7_isDigit_0 rfl rfl ?_
  obtain ⟨r2, h1, h⟩ := bd_some h
  refine r_cV (Wd := 0) X (fun l D sz => w_X7_here l D sz h1) ho0.1 rfl q446 qs3 q444 q110 q447 hy_X7_here rfl dX7_isDigit_1 rfl rfl (Nat.le_of_ble_eq_true rfl) ⟨Nat.le_of_ble_eq_true rfl, Nat.le_of_ble_eq_true rfl⟩ ⟨Nat.le_of_ble_eq_true rfl, Nat.le_of_ble_eq_true rfl⟩ ?_
  refine r_bipush X dX7_isDigit_4 (by decide) ?_
  refine r_icmp_lt (tgt := 22) X dX7_isDigit_6 (by decide) h (fun c3 h => ?_) (fun c3 h => ?_)
  · refine r_iconst X dX7_isDigit_22 ?_
    cases h
    exact r_zret X hr (by decide) dX7_isDigit_23
  · refine r_aload_n X 0 dX7_isDigit_9 rfl rfl ?_
    obtain ⟨r6, h5, h⟩ := bd_some h
    refine r_cV (Wd := 0) X (fun l D sz => w_X7_here l D sz h5) ho0.1 rfl q446 qs3 q444 q110 q447 hy_X7_here rfl dX7_isDigit_10 rfl rfl (Nat.le_of_ble_eq_true rfl) ⟨Nat.le_of_ble_eq_true rfl, Nat.le_of_ble_eq_true rfl⟩ ⟨Nat.le_of_ble_eq_true rfl, Nat.le_of_ble_eq_true rfl⟩ ?_
    refine r_bipush X dX7_isDigit_13 (by decide) ?_
    refine r_icmp_gt (tgt := 22) X dX7_isDigit_15 (by decide) h (fun c7 h => ?_) (fun c7 h => ?_)
    · refine r_iconst X dX7_isDigit_22 ?_
      cases h
      exact r_zret X hr (by decide) dX7_isDigit_23
    · refine r_iconst X dX7_isDigit_18 ?_
      refine r_goto (tgt := 23) X dX7_isDigit_19 (by decide) ?_
      cases h
      exact r_zret X hr (by decide) dX7_isDigit_23
theorem hy_X8_init : yX8_init.cls ≠ "java/lang/invoke/MethodHandle" ∧ yX8_init.cls ≠ "java/lang/invoke/VarHandle" ∧ (parseMethodDescriptor yX8_init.desc).map (fun d => d.parameters.length) = some 1 := by decide +kernel
set_option maxHeartbeats 4000000 in
theorem w_X8_init (l : Launch) (D : DD) (sz : Nat) {σ : St} {a0 : Nat} {x1 : Int} {w : St} (h : f_X8_init σ a0 x1 = some w) : Mt l yX8_init cX8_init 2 none ({ frames := 4, cells := 0, slots := 0, locals := 60 } : Room) D sz σ [.ref a0, iv (x1)] (.returned none) (w) 0 0 := by
  refine Mt.of (by decide +kernel) (Nat.le_of_ble_eq_true rfl) ?_
  intro Γ X hr hnl hini hnoh
  have X : Cx Γ cX8_init "DayBoy$Wrong" _ := X
  have hL : ∀ i, i < 2 → i < nLc Γ := fun i q => by rw [hnl]; exact q
  have hini := hini rfl
  show V Γ σ 0 0 0 [(0, .ref (a0)), (1, iv (x1))] []
  unfold f_X8_init at h
  obtain ⟨hc0, h⟩ := ck_some h
  refine r_aload_n X 0 dX8_init_0 rfl rfl ?_
  refine r_null X dX8_init_1 ?_
  refine r_null X dX8_init_2 ?_
  refine r_iconst X dX8_init_3 ?_
  refine r_iconst X dX8_init_4 ?_
  obtain ⟨σ2, h1, h⟩ := bd_some h
  refine r_cI (Wd := 0) X (fun l D sz => w_J2_init l D sz h1) rfl rfl q500 q499 q113 q501 hy_J2_init rfl dX8_init_5 rfl rfl (Nat.le_of_ble_eq_true rfl) ⟨Nat.le_of_ble_eq_true rfl, Nat.le_of_ble_eq_true rfl⟩ ⟨Nat.le_of_ble_eq_true rfl, Nat.le_of_ble_eq_true rfl⟩ ?_
  refine r_aload_n X 0 dX8_init_8 rfl rfl ?_
  refine r_iload_n X 1 dX8_init_9 rfl rfl ?_
  obtain ⟨ho3, h⟩ := cO_some h
  refine r_putIF (kf := 6) X hini ho3.1 rfl (by decide) rfl rfl q508 rfl dX8_init_10 rfl ?_
  refine r_let h (fun σ4 eσ4 h => ?_)
  cases h
  exact r_vret X hr dX8_init_13
theorem hy_X7_take : yX7_take.cls ≠ "java/lang/invoke/MethodHandle" ∧ yX7_take.cls ≠ "java/lang/invoke/VarHandle" ∧ (parseMethodDescriptor yX7_take.desc).map (fun d => d.parameters.length) = some 1 := by decide +kernel
set_option maxHeartbeats 4000000 in
theorem w_X7_take (l : Launch) (D : DD) (sz : Nat) {σ : St} {a0 : Nat} {x1 : Int} {w : (Int × St) ⊕ (Nat × St)} (h : f_X7_take σ a0 x1 = some w) : Mt l yX7_take cX7_take 2 (some FieldType.int) ({ frames := 5, cells := 1, slots := 7, locals := 74 } : Room) D sz σ [.ref a0, iv (x1)] (Sum.elim (fun q => Outcome.returned (some (iv q.1))) (fun q => Outcome.threw q.1) w) (Sum.elim (fun q => q.2) (fun q => q.2) w) (Sum.elim (fun _ => 0) (fun _ => 1) w) (Sum.elim (fun _ => 0) (fun _ => 7) w) := by
  refine Mt.of (by decide +kernel) (Nat.le_of_ble_eq_true rfl) ?_
  intro Γ X hr hnl hini hnoh
  have X : Cx Γ cX7_take "DayBoy$Reader" _ := X
  have hL : ∀ i, i < 2 → i < nLc Γ := fun i q => by rw [hnl]; exact q
  show V Γ σ 0 0 0 [(0, .ref (a0)), (1, iv (x1))] []
  unfold f_X7_take at h
  obtain ⟨ho0, h⟩ := cO_some h
  refine r_iload_n X 1 dX7_take_0 rfl rfl ?_
  refine r_if_ne (tgt := 16) X dX7_take_1 (by decide) h (fun c1 h => ?_) (fun c1 h => ?_)
  · refine r_new (c := 7) (N := 7) X rfl rfl (by decide) q456 q457 q114 dX7_take_4 (by decide) (by decide) ?_
    refine r_let h (fun σ2 eσ2 h => ?_)
    have hk3 : cL σ2 (nX (σ)) = some 7 := by rw [eσ2, cL_nO, if_pos rfl]
    have ho4 : oc σ2 (nX (σ)) 7 := ⟨hk3, fun k hk => by cases hk⟩
    refine r_dup X dX7_take_7 rfl ?_
    refine r_aload_n X 0 dX7_take_8 rfl rfl ?_
    obtain ⟨ho5, h⟩ := cO_some h
    refine r_getI (kf := 0) X ho5.1 rfl (by decide) rfl (Or.inl q422) dX7_take_9 ?_
    obtain ⟨σ7, h6, h⟩ := bd_some h
    refine r_cI (Wd := 1) X (fun l D sz => w_X8_init l D sz h6) rfl rfl q497 q496 q114 q498 hy_X8_init rfl dX7_take_12 rfl rfl (Nat.le_of_ble_eq_true rfl) ⟨Nat.le_of_ble_eq_true rfl, Nat.le_of_ble_eq_true rfl⟩ ⟨Nat.le_of_ble_eq_true rfl, Nat.le_of_ble_eq_true rfl⟩ ?_
    refine r_athrow X dX7_take_15 ?_
    cases h
    exact r_out X hnoh hr
  · refine r_aload_n X 0 dX7_take_16 rfl rfl ?_
    refine r_dup X dX7_take_17 rfl ?_
    refine r_getI (kf := 0) X ho0.1 rfl (by decide) rfl (Or.inl q422) dX7_take_18 ?_
    refine r_iconst X dX7_take_21 ?_
    refine r_iadd X dX7_take_22 ?_
    refine r_putI (kf := 0) X ho0.1 rfl (by decide) rfl rfl (Or.inl q422) dX7_take_23 rfl ?_
    refine r_let h (fun σ8 eσ8 h => ?_)
    refine r_aload_n X 0 dX7_take_26 rfl rfl ?_
    have hk9 : oc σ8 (a0) 6 := by rw [eσ8]; exact ho0
    refine r_getP (kf := 2) X hk9.1 rfl (by decide) rfl (Or.inl q424) dX7_take_27 h (fun b10 h => ?_)
    obtain ⟨ho11, h⟩ := cO_some h
    refine r_getA (kf := 0) X ho11.1 rfl (by decide) (by decide) (Or.inr ⟨_, q303⟩) dX7_take_30 ?_
    refine r_aload_n X 0 dX7_take_33 rfl rfl ?_
    refine r_getI (kf := 0) X hk9.1 rfl (by decide) rfl (Or.inl q422) dX7_take_34 ?_
    refine r_iconst X dX7_take_37 ?_
    refine r_isub X dX7_take_38 ?_
    refine r_bald X ho11.1 (ho11.2 0 (by decide)) rfl rfl rfl (by decide) dX7_take_39 h (fun h => ?_)
    cases h
    exact r_iret X hr dX7_take_40
theorem hy_X7_right : yX7_right.cls ≠ "java/lang/invoke/MethodHandle" ∧ yX7_right.cls ≠ "java/lang/invoke/VarHandle" ∧ (parseMethodDescriptor yX7_right.desc).map (fun d => d.parameters.length) = some 2 := by decide +kernel
set_option maxHeartbeats 4000000 in
theorem w_X7_right (l : Launch) (D : DD) (sz : Nat) {σ : St} {a0 : Nat} {x1 : Int} {x2 : Int} {w : (Int × St) ⊕ (Nat × St)} (h : f_X7_right σ a0 x1 x2 = some w) : Mt l yX7_right cX7_right 3 (some FieldType.int) ({ frames := 5, cells := 1, slots := 7, locals := 74 } : Room) D sz σ [.ref a0, iv (x1), iv (x2)] (Sum.elim (fun q => Outcome.returned (some (iv q.1))) (fun q => Outcome.threw q.1) w) (Sum.elim (fun q => q.2) (fun q => q.2) w) (Sum.elim (fun _ => 0) (fun _ => 1) w) (Sum.elim (fun _ => 0) (fun _ => 7) w) := by
  refine Mt.of (by decide +kernel) (Nat.le_of_ble_eq_true rfl) ?_
  intro Γ X hr hnl hini hnoh
  have X : Cx Γ cX7_right "DayBoy$Reader" _ := X
  have hL : ∀ i, i < 3 → i < nLc Γ := fun i q => by rw [hnl]; exact q
  show V Γ σ 0 0 0 [(0, .ref (a0)), (1, iv (x1)), (2, iv (x2))] []
  unfold f_X7_right at h
  obtain ⟨ho0, h⟩ := cO_some h
  refine r_iload_n X 2 dX7_right_0 rfl rfl ?_
  refine r_if_ne (tgt := 18) X dX7_right_1 (by decide) h (fun c1 h => ?_) (fun c1 h => ?_)
  · refine r_new (c := 7) (N := 7) X rfl rfl (by decide) q456 q457 q114 dX7_right_4 (by decide) (by decide) ?_
    refine r_let h (fun σ2 eσ2 h => ?_)
    have hk3 : cL σ2 (nX (σ)) = some 7 := by rw [eσ2, cL_nO, if_pos rfl]
    have ho4 : oc σ2 (nX (σ)) 7 := ⟨hk3, fun k hk => by cases hk⟩
    refine r_dup X dX7_right_7 rfl ?_
    refine r_aload_n X 0 dX7_right_8 rfl rfl ?_
    obtain ⟨ho5, h⟩ := cO_some h
    refine r_getI (kf := 0) X ho5.1 rfl (by decide) rfl (Or.inl q422) dX7_right_9 ?_
    refine r_iconst X dX7_right_12 ?_
    refine r_isub X dX7_right_13 ?_
    obtain ⟨σ7, h6, h⟩ := bd_some h
    refine r_cI (Wd := 1) X (fun l D sz => w_X8_init l D sz h6) rfl rfl q497 q496 q114 q498 hy_X8_init rfl dX7_right_14 rfl rfl (Nat.le_of_ble_eq_true rfl) ⟨Nat.le_of_ble_eq_true rfl, Nat.le_of_ble_eq_true rfl⟩ ⟨Nat.le_of_ble_eq_true rfl, Nat.le_of_ble_eq_true rfl⟩ ?_
    refine r_athrow X dX7_right_17 ?_
    cases h
    exact r_out X hnoh hr
  · refine r_iload_n X 1 dX7_right_18 rfl rfl ?_
    cases h
    exact r_iret X hr dX7_right_19
theorem hy_X7_number : yX7_number.cls ≠ "java/lang/invoke/MethodHandle" ∧ yX7_number.cls ≠ "java/lang/invoke/VarHandle" ∧ (parseMethodDescriptor yX7_number.desc).map (fun d => d.parameters.length) = some 2 := by decide +kernel
set_option maxHeartbeats 4000000 in
theorem w_X7_number (l : Launch) (D : DD) (sz : Nat) {σ : St} {a0 : Nat} {x1 : Int} {x2 : Int} {w : (Int × St) ⊕ (Nat × St)} (h : f_X7_number σ a0 x1 x2 = some w) : Mt l yX7_number cX7_number 6 (some FieldType.int) ({ frames := 6, cells := 1, slots := 7, locals := 88 } : Room) D sz σ [.ref a0, iv (x1), iv (x2)] (Sum.elim (fun q => Outcome.returned (some (iv q.1))) (fun q => Outcome.threw q.1) w) (Sum.elim (fun q => q.2) (fun q => q.2) w) (Sum.elim (fun _ => 0) (fun _ => 1) w) (Sum.elim (fun _ => 0) (fun _ => 7) w) := by
  refine Mt.of (by decide +kernel) (Nat.le_of_ble_eq_true rfl) ?_
  intro Γ X hr hnl hini hnoh
  have X : Cx Γ cX7_number "DayBoy$Reader" _ := X
  have hL : ∀ i, i < 6 → i < nLc Γ := fun i q => by rw [hnl]; exact q
  show V Γ σ 0 0 0 [(0, .ref (a0)), (1, iv (x1)), (2, iv (x2))] []
  unfold f_X7_number at h
  obtain ⟨ho0, h⟩ := cO_some h
  have J56 : ∀ (v4_j56 : Int) (σ_j56 : St), f_X7_number_j56 (a0) (x1) (x2) v4_j56 σ_j56 = some w → V Γ σ_j56 0 0 56 [(0, .ref (a0)), (1, iv (x1)), (2, iv (x2)), (4, iv (v4_j56))] [] := by
    intro v4_j56 σ_j56 h
    unfold f_X7_number_j56 at h
    refine r_aload_n X 0 dX7_number_56 rfl rfl ?_
    obtain ⟨ho2, h⟩ := cO_some h
    obtain ⟨r3, h1, h⟩ := bd_some h
    refine r_cV (Wd := 0) X (fun l D sz => w_X7_isDigit l D sz h1) ho2.1 rfl q450 qs4 q448 q110 q451 hy_X7_isDigit rfl dX7_number_57 rfl rfl (Nat.le_of_ble_eq_true rfl) ⟨Nat.le_of_ble_eq_true rfl, Nat.le_of_ble_eq_true rfl⟩ ⟨Nat.le_of_ble_eq_true rfl, Nat.le_of_ble_eq_true rfl⟩ ?_
    refine r_if_eq (tgt := 75) X dX7_number_60 (by decide) h (fun c4 h => ?_) (fun c4 h => ?_)
    · refine r_aload_n X 0 dX7_number_75 rfl rfl ?_
      refine r_iload X 3 dX7_number_76 rfl ?_
      refine r_iload X 3 dX7_number_78 rfl ?_
      obtain ⟨c5, h⟩ := ck_some h
      refine r_i2l X dX7_number_80 c5 ?_
      refine r_iload_n X 1 dX7_number_81 rfl rfl ?_
      obtain ⟨c6, h⟩ := ck_some h
      refine r_i2l X dX7_number_82 c6 ?_
      refine r_iload_n X 2 dX7_number_83 rfl rfl ?_
      obtain ⟨c7, h⟩ := ck_some h
      refine r_i2l X dX7_number_84 c7 ?_
      obtain ⟨r9, h8, h⟩ := bd_some h
      refine r_cSN (Wd := 2) X (fun l D sz => w_X1_isIn l D sz h8) q414 q525 q104 q415 hy_X1_isIn rfl dX7_number_85 rfl rfl (Nat.le_of_ble_eq_true rfl) ⟨Nat.le_of_ble_eq_true rfl, Nat.le_of_ble_eq_true rfl⟩ ⟨Nat.le_of_ble_eq_true rfl, Nat.le_of_ble_eq_true rfl⟩ ?_
      rcases bT2_some h with ⟨r14, σ11, h10, h⟩ | ⟨xc12, σ13, h10, h⟩
      · refine r_cV (σ' := σ11) (kc := 0) (ks := 0) (Wd := 0) X (fun l D sz => w_X7_right l D sz h10) ho2.1 rfl q528 qs7 q526 q110 q529 hy_X7_right rfl dX7_number_88 rfl rfl (Nat.le_of_ble_eq_true rfl) ⟨Nat.le_of_ble_eq_true rfl, Nat.le_of_ble_eq_true rfl⟩ ⟨Nat.le_of_ble_eq_true rfl, Nat.le_of_ble_eq_true rfl⟩ ?_
        cases h
        exact r_iret X hr dX7_number_91
      · refine r_tV (σ' := σ13) (kc := 1) (ks := 7) (Wd := 0) X (fun l D sz => w_X7_right l D sz h10) ho2.1 rfl q528 qs7 q526 q110 q529 hy_X7_right rfl dX7_number_88 rfl (Nat.le_of_ble_eq_true rfl) ⟨Nat.le_of_ble_eq_true rfl, Nat.le_of_ble_eq_true rfl⟩ ⟨Nat.le_of_ble_eq_true rfl, Nat.le_of_ble_eq_true rfl⟩ ?_
        cases h
        exact r_out X hnoh hr
    · refine r_new (c := 7) (N := 7) X rfl rfl (by decide) q456 q457 q114 dX7_number_63 (by decide) (by decide) ?_
      refine r_let h (fun σ15 eσ15 h => ?_)
      have hk16 : cL σ15 (nX (σ_j56)) = some 7 := by rw [eσ15, cL_nO, if_pos rfl]
      have ho17 : oc σ15 (nX (σ_j56)) 7 := ⟨hk16, fun k hk => by cases hk⟩
      refine r_dup X dX7_number_66 rfl ?_
      refine r_aload_n X 0 dX7_number_67 rfl rfl ?_
      obtain ⟨ho18, h⟩ := cO_some h
      refine r_getI (kf := 0) X ho18.1 rfl (by decide) rfl (Or.inl q422) dX7_number_68 ?_
      obtain ⟨σ20, h19, h⟩ := bd_some h
      refine r_cI (Wd := 1) X (fun l D sz => w_X8_init l D sz h19) rfl rfl q497 q496 q114 q498 hy_X8_init rfl dX7_number_71 rfl rfl (Nat.le_of_ble_eq_true rfl) ⟨Nat.le_of_ble_eq_true rfl, Nat.le_of_ble_eq_true rfl⟩ ⟨Nat.le_of_ble_eq_true rfl, Nat.le_of_ble_eq_true rfl⟩ ?_
      refine r_athrow X dX7_number_74 ?_
      cases h
      exact r_out X hnoh hr
  refine r_aload_n X 0 dX7_number_0 rfl rfl ?_
  obtain ⟨r22, σ23, h21, h⟩ := bd2_some h
  refine r_cV (Wd := 0) X (fun l D sz => w_X7_look l D sz h21) ho0.1 rfl q442 qs2 q440 q110 q443 hy_X7_look rfl dX7_number_1 rfl rfl (Nat.le_of_ble_eq_true rfl) ⟨Nat.le_of_ble_eq_true rfl, Nat.le_of_ble_eq_true rfl⟩ ⟨Nat.le_of_ble_eq_true rfl, Nat.le_of_ble_eq_true rfl⟩ ?_
  refine r_istore_n X dX7_number_4 rfl (hL 3 (by decide)) (lv' := [(3, iv (r22)), (0, .ref (a0)), (1, iv (x1)), (2, iv (x2))]) rfl ?_
  refine r_aload_n X 1 dX7_number_5 rfl rfl ?_
  refine r_aload_n X 1 dX7_number_6 rfl rfl ?_
  obtain ⟨ho25, h⟩ := cO_some h
  obtain ⟨r26, h24, h⟩ := bd_some h
  refine r_cV (Wd := 1) X (fun l D sz => w_X7_isDigit l D sz h24) ho25.1 rfl q450 qs4 q448 q110 q451 hy_X7_isDigit rfl dX7_number_7 rfl rfl (Nat.le_of_ble_eq_true rfl) ⟨Nat.le_of_ble_eq_true rfl, Nat.le_of_ble_eq_true rfl⟩ ⟨Nat.le_of_ble_eq_true rfl, Nat.le_of_ble_eq_true rfl⟩ ?_
  rcases bT2_some h with ⟨r31, σ28, h27, h⟩ | ⟨xc29, σ30, h27, h⟩
  · refine r_cV (σ' := σ28) (kc := 0) (ks := 0) (Wd := 0) X (fun l D sz => w_X7_take l D sz h27) ho25.1 rfl q454 qs5 q452 q110 q455 hy_X7_take rfl dX7_number_10 rfl rfl (Nat.le_of_ble_eq_true rfl) ⟨Nat.le_of_ble_eq_true rfl, Nat.le_of_ble_eq_true rfl⟩ ⟨Nat.le_of_ble_eq_true rfl, Nat.le_of_ble_eq_true rfl⟩ ?_
    refine r_bipush X dX7_number_13 (by decide) ?_
    refine r_isub X dX7_number_15 ?_
    refine r_istore X dX7_number_16 (hL 4 (by decide)) (lv' := [(4, iv ((r31 - 48))), (3, iv (r22)), (0, .ref (a0)), (1, iv (x1)), (2, iv (x2))]) rfl ?_
    refine r_iconst X dX7_number_18 ?_
    refine r_istore X dX7_number_19 (hL 5 (by decide)) (lv' := [(5, iv (1)), (4, iv ((r31 - 48))), (3, iv (r22)), (0, .ref (a0)), (1, iv (x1)), (2, iv (x2))]) rfl ?_
    have L21 : ∀ s : Int × Int × St, lp (fun s => f_X7_number_b21 (a0) (x1) (x2) s.1 s.2.1 s.2.2) s = some w → V Γ (s.2.2) 0 0 21 [(0, .ref (a0)), (1, iv (x1)), (2, iv (x2)), (4, iv (s.1)), (5, iv (s.2.1))] [] := by
      refine lp_rule (P := fun s : Int × Int × St => V Γ (s.2.2) 0 0 21 [(0, .ref (a0)), (1, iv (x1)), (2, iv (x2)), (4, iv (s.1)), (5, iv (s.2.1))] []) ?_
      intro s z1 h ihb1 ihe1
      obtain ⟨v4_1, v5_1, σ_1⟩ := s
      have h : f_X7_number_b21 (a0) (x1) (x2) v4_1 v5_1 σ_1 = some z1 := h
      unfold f_X7_number_b21 at h
      show V Γ σ_1 0 0 21 [(0, .ref (a0)), (1, iv (x1)), (2, iv (x2)), (4, iv (v4_1)), (5, iv (v5_1))] []
      refine r_iload X 4 dX7_number_21 rfl ?_
      refine r_iconst X dX7_number_23 ?_
      refine r_icmp_ge (tgt := 56) X dX7_number_24 (by decide) h (fun c32 h => ?_) (fun c32 h => ?_)
      · refine r_aload_n X 0 dX7_number_27 rfl rfl ?_
        obtain ⟨ho34, h⟩ := cO_some h
        obtain ⟨r35, h33, h⟩ := bd_some h
        refine r_cV (Wd := 0) X (fun l D sz => w_X7_isDigit l D sz h33) ho34.1 rfl q450 qs4 q448 q110 q451 hy_X7_isDigit rfl dX7_number_28 rfl rfl (Nat.le_of_ble_eq_true rfl) ⟨Nat.le_of_ble_eq_true rfl, Nat.le_of_ble_eq_true rfl⟩ ⟨Nat.le_of_ble_eq_true rfl, Nat.le_of_ble_eq_true rfl⟩ ?_
        refine r_if_eq (tgt := 56) X dX7_number_31 (by decide) h (fun c36 h => ?_) (fun c36 h => ?_)
        · have h := ex_some h ihe1
          exact V.sub [0, 1, 2, 3] rfl (J56 (v4_1) (σ_1) h)
        · refine r_bipush X dX7_number_34 (by decide) ?_
          refine r_iload X 3 dX7_number_36 rfl ?_
          refine r_imul X dX7_number_38 ?_
          refine r_aload_n X 0 dX7_number_39 rfl rfl ?_
          refine r_iconst X dX7_number_40 ?_
          rcases bT2_some h with ⟨r41, σ38, h37, h⟩ | ⟨xc39, σ40, h37, h⟩
          · refine r_cV (σ' := σ38) (kc := 0) (ks := 0) (Wd := 1) X (fun l D sz => w_X7_take l D sz h37) ho34.1 rfl q454 qs5 q452 q110 q455 hy_X7_take rfl dX7_number_41 rfl rfl (Nat.le_of_ble_eq_true rfl) ⟨Nat.le_of_ble_eq_true rfl, Nat.le_of_ble_eq_true rfl⟩ ⟨Nat.le_of_ble_eq_true rfl, Nat.le_of_ble_eq_true rfl⟩ ?_
            refine r_iadd X dX7_number_44 ?_
            refine r_bipush X dX7_number_45 (by decide) ?_
            refine r_isub X dX7_number_47 ?_
            refine r_istore X dX7_number_48 (hL 4 (by decide)) (lv' := [(4, iv ((((10 * v4_1) + r41) - 48))), (0, .ref (a0)), (1, iv (x1)), (2, iv (x2)), (5, iv (v5_1))]) rfl ?_
            refine r_iinc X 4 dX7_number_50 rfl (hL 5 (by decide)) (lv' := [(5, iv ((v5_1 + 1))), (4, iv ((((10 * v4_1) + r41) - 48))), (0, .ref (a0)), (1, iv (x1)), (2, iv (x2))]) rfl ?_
            refine r_goto (tgt := 21) X dX7_number_53 (by decide) ?_
            exact V.sub [2, 3, 4, 1, 0] rfl (ihb1 _ (Option.some.inj h).symm)
          · refine r_tV (σ' := σ40) (kc := 1) (ks := 7) (Wd := 1) X (fun l D sz => w_X7_take l D sz h37) ho34.1 rfl q454 qs5 q452 q110 q455 hy_X7_take rfl dX7_number_41 rfl (Nat.le_of_ble_eq_true rfl) ⟨Nat.le_of_ble_eq_true rfl, Nat.le_of_ble_eq_true rfl⟩ ⟨Nat.le_of_ble_eq_true rfl, Nat.le_of_ble_eq_true rfl⟩ ?_
            have h := ex_some h ihe1
            cases h
            exact r_out X hnoh hr
      · have h := ex_some h ihe1
        exact V.sub [0, 1, 2, 3] rfl (J56 (v4_1) (σ_1) h)
    exact V.sub [3, 4, 5, 1, 0] rfl (L21 ((r31 - 48), 1, σ28) h)
  · refine r_tV (σ' := σ30) (kc := 1) (ks := 7) (Wd := 0) X (fun l D sz => w_X7_take l D sz h27) ho25.1 rfl q454 qs5 q452 q110 q455 hy_X7_take rfl dX7_number_10 rfl (Nat.le_of_ble_eq_true rfl) ⟨Nat.le_of_ble_eq_true rfl, Nat.le_of_ble_eq_true rfl⟩ ⟨Nat.le_of_ble_eq_true rfl, Nat.le_of_ble_eq_true rfl⟩ ?_
    cases h
    exact r_out X hnoh hr
theorem hy_X7_takes : yX7_takes.cls ≠ "java/lang/invoke/MethodHandle" ∧ yX7_takes.cls ≠ "java/lang/invoke/VarHandle" ∧ (parseMethodDescriptor yX7_takes.desc).map (fun d => d.parameters.length) = some 1 := by decide +kernel
set_option maxHeartbeats 4000000 in
theorem w_X7_takes (l : Launch) (D : DD) (sz : Nat) {σ : St} {a0 : Nat} {x1 : Int} {w : St ⊕ (Nat × St)} (h : f_X7_takes σ a0 x1 = some w) : Mt l yX7_takes cX7_takes 3 none ({ frames := 6, cells := 1, slots := 7, locals := 87 } : Room) D sz σ [.ref a0, iv (x1)] (Sum.elim (fun q => Outcome.returned none) (fun q => Outcome.threw q.1) w) (Sum.elim (fun q => q) (fun q => q.2) w) (Sum.elim (fun _ => 0) (fun _ => 1) w) (Sum.elim (fun _ => 0) (fun _ => 7) w) := by
  refine Mt.of (by decide +kernel) (Nat.le_of_ble_eq_true rfl) ?_
  intro Γ X hr hnl hini hnoh
  have X : Cx Γ cX7_takes "DayBoy$Reader" _ := X
  have hL : ∀ i, i < 3 → i < nLc Γ := fun i q => by rw [hnl]; exact q
  show V Γ σ 0 0 0 [(0, .ref (a0)), (1, iv (x1))] []
  unfold f_X7_takes at h
  obtain ⟨ho0, h⟩ := cO_some h
  have J14 : ∀ (t0_j14 : Int) (t1_j14 : Nat) (σ_j14 : St), f_X7_takes_j14  t0_j14 t1_j14 σ_j14 = some w → V Γ σ_j14 0 0 14 [] [iv (t0_j14), .ref (t1_j14)] := by
    intro t0_j14 t1_j14 σ_j14 h
    unfold f_X7_takes_j14 at h
    obtain ⟨ho2, h⟩ := cO_some h
    rcases bT2_some h with ⟨r6, σ3, h1, h⟩ | ⟨xc4, σ5, h1, h⟩
    · refine r_cV (σ' := σ3) (kc := 0) (ks := 0) (Wd := 0) X (fun l D sz => w_X7_take l D sz h1) ho2.1 rfl q454 qs5 q452 q110 q455 hy_X7_take rfl dX7_takes_14 rfl rfl (Nat.le_of_ble_eq_true rfl) ⟨Nat.le_of_ble_eq_true rfl, Nat.le_of_ble_eq_true rfl⟩ ⟨Nat.le_of_ble_eq_true rfl, Nat.le_of_ble_eq_true rfl⟩ ?_
      refine r_istore_n X dX7_takes_17 rfl (hL 2 (by decide)) (lv' := [(2, iv (r6))]) rfl ?_
      cases h
      exact r_vret X hr dX7_takes_18
    · refine r_tV (σ' := σ5) (kc := 1) (ks := 7) (Wd := 0) X (fun l D sz => w_X7_take l D sz h1) ho2.1 rfl q454 qs5 q452 q110 q455 hy_X7_take rfl dX7_takes_14 rfl (Nat.le_of_ble_eq_true rfl) ⟨Nat.le_of_ble_eq_true rfl, Nat.le_of_ble_eq_true rfl⟩ ⟨Nat.le_of_ble_eq_true rfl, Nat.le_of_ble_eq_true rfl⟩ ?_
      cases h
      exact r_out X hnoh hr
  refine r_aload_n X 0 dX7_takes_0 rfl rfl ?_
  refine r_aload_n X 0 dX7_takes_1 rfl rfl ?_
  obtain ⟨r8, σ9, h7, h⟩ := bd2_some h
  refine r_cV (Wd := 1) X (fun l D sz => w_X7_look l D sz h7) ho0.1 rfl q442 qs2 q440 q110 q443 hy_X7_look rfl dX7_takes_2 rfl rfl (Nat.le_of_ble_eq_true rfl) ⟨Nat.le_of_ble_eq_true rfl, Nat.le_of_ble_eq_true rfl⟩ ⟨Nat.le_of_ble_eq_true rfl, Nat.le_of_ble_eq_true rfl⟩ ?_
  refine r_iload_n X 1 dX7_takes_5 rfl rfl ?_
  refine r_icmp_ne (tgt := 13) X dX7_takes_6 (by decide) h (fun c10 h => ?_) (fun c10 h => ?_)
  · refine r_iconst X dX7_takes_9 ?_
    refine r_goto (tgt := 14) X dX7_takes_10 (by decide) ?_
    exact V.sub [] rfl (J14 (1) (a0) (σ9) h)
  · refine r_iconst X dX7_takes_13 ?_
    exact V.sub [] rfl (J14 (0) (a0) (σ9) h)
theorem hy_X7_leaps : yX7_leaps.cls ≠ "java/lang/invoke/MethodHandle" ∧ yX7_leaps.cls ≠ "java/lang/invoke/VarHandle" ∧ (parseMethodDescriptor yX7_leaps.desc).map (fun d => d.parameters.length) = some 1 := by decide +kernel
set_option maxHeartbeats 4000000 in
theorem w_X7_leaps (l : Launch) (D : DD) (sz : Nat) {σ : St} {a0 : Nat} {p1 : Nat} {w : St ⊕ (Nat × St)} (h : f_X7_leaps σ a0 p1 = some w) : Mt l yX7_leaps cX7_leaps 4 none ({ frames := 7, cells := 1, slots := 7, locals := 105 } : Room) D sz σ [.ref a0, .ref (p1)] (Sum.elim (fun q => Outcome.returned none) (fun q => Outcome.threw q.1) w) (Sum.elim (fun q => q) (fun q => q.2) w) (Sum.elim (fun _ => 0) (fun _ => 1) w) (Sum.elim (fun _ => 0) (fun _ => 7) w) := by
  refine Mt.of (by decide +kernel) (Nat.le_of_ble_eq_true rfl) ?_
  intro Γ X hr hnl hini hnoh
  have X : Cx Γ cX7_leaps "DayBoy$Reader" _ := X
  have hL : ∀ i, i < 4 → i < nLc Γ := fun i q => by rw [hnl]; exact q
  show V Γ σ 0 0 0 [(0, .ref (a0)), (1, .ref (p1))] []
  unfold f_X7_leaps at h
  obtain ⟨ho0, h⟩ := cO_some h
  refine r_aload_n X 0 dX7_leaps_0 rfl rfl ?_
  obtain ⟨r2, σ3, h1, h⟩ := bd2_some h
  refine r_cV (Wd := 0) X (fun l D sz => w_X7_look l D sz h1) ho0.1 rfl q442 qs2 q440 q110 q443 hy_X7_look rfl dX7_leaps_1 rfl rfl (Nat.le_of_ble_eq_true rfl) ⟨Nat.le_of_ble_eq_true rfl, Nat.le_of_ble_eq_true rfl⟩ ⟨Nat.le_of_ble_eq_true rfl, Nat.le_of_ble_eq_true rfl⟩ ?_
  refine r_istore_n X dX7_leaps_4 rfl (hL 2 (by decide)) (lv' := [(2, iv (r2)), (0, .ref (a0)), (1, .ref (p1))]) rfl ?_
  have L5 : ∀ s : St, lp (fun s => f_X7_leaps_b5 (a0) (p1) s) s = some w → V Γ (s) 0 0 5 [(0, .ref (a0)), (1, .ref (p1))] [] := by
    refine lp_rule (P := fun s : St => V Γ (s) 0 0 5 [(0, .ref (a0)), (1, .ref (p1))] []) ?_
    intro s z1 h ihb1 ihe1
    obtain ⟨σ_1, es⟩ : ∃ q, q = s := ⟨s, rfl⟩
    subst es
    have h : f_X7_leaps_b5 (a0) (p1) σ_1 = some z1 := h
    unfold f_X7_leaps_b5 at h
    show V Γ σ_1 0 0 5 [(0, .ref (a0)), (1, .ref (p1))] []
    have J75 : ∀ (t0_j75 : Int) (t1_j75 : Int) (t2_j75 : Nat) (σ_j75 : St), f_X7_leaps_j75 (a0) (p1) t0_j75 t1_j75 t2_j75 σ_j75 = some z1 → V Γ σ_j75 0 0 75 [(0, .ref (a0)), (1, .ref (p1))] [iv (t0_j75), iv (t1_j75), .ref (t2_j75)] := by
      intro t0_j75 t1_j75 t2_j75 σ_j75 h
      unfold f_X7_leaps_j75 at h
      obtain ⟨ho5, h⟩ := cO_some h
      obtain ⟨σ6, h4, h⟩ := bd_some h
      refine r_cV (Wd := 0) X (fun l D sz => w_X4_add l D sz h4) ho5.1 rfl q551 q552 q550 q107 q553 hy_X4_add rfl dX7_leaps_75 rfl rfl (Nat.le_of_ble_eq_true rfl) ⟨Nat.le_of_ble_eq_true rfl, Nat.le_of_ble_eq_true rfl⟩ ⟨Nat.le_of_ble_eq_true rfl, Nat.le_of_ble_eq_true rfl⟩ ?_
      refine r_aload_n X 0 dX7_leaps_78 rfl rfl ?_
      obtain ⟨ho8, h⟩ := cO_some h
      obtain ⟨r9, σ10, h7, h⟩ := bd2_some h
      refine r_cV (Wd := 0) X (fun l D sz => w_X7_look l D sz h7) ho8.1 rfl q442 qs2 q440 q110 q443 hy_X7_look rfl dX7_leaps_79 rfl rfl (Nat.le_of_ble_eq_true rfl) ⟨Nat.le_of_ble_eq_true rfl, Nat.le_of_ble_eq_true rfl⟩ ⟨Nat.le_of_ble_eq_true rfl, Nat.le_of_ble_eq_true rfl⟩ ?_
      refine r_istore_n X dX7_leaps_82 rfl (hL 2 (by decide)) (lv' := [(2, iv (r9)), (0, .ref (a0)), (1, .ref (p1))]) rfl ?_
      refine r_aload_n X 1 dX7_leaps_83 rfl rfl ?_
      obtain ⟨ho12, h⟩ := cO_some h
      obtain ⟨r13, h11, h⟩ := bd_some h
      refine r_cV (Wd := 0) X (fun l D sz => w_X7_isDigit l D sz h11) ho12.1 rfl q450 qs4 q448 q110 q451 hy_X7_isDigit rfl dX7_leaps_84 rfl rfl (Nat.le_of_ble_eq_true rfl) ⟨Nat.le_of_ble_eq_true rfl, Nat.le_of_ble_eq_true rfl⟩ ⟨Nat.le_of_ble_eq_true rfl, Nat.le_of_ble_eq_true rfl⟩ ?_
      refine r_if_ne (tgt := 5) X dX7_leaps_87 (by decide) h (fun c14 h => ?_) (fun c14 h => ?_)
      · have h := ex_some h ihe1
        refine r_aload_n X 2 dX7_leaps_90 rfl rfl ?_
        obtain ⟨ho16, h⟩ := cO_some h
        obtain ⟨σ17, h15, h⟩ := bd_some h
        refine r_cV (Wd := 0) X (fun l D sz => w_X4_count l D sz h15) ho16.1 rfl q555 q556 q554 q107 q557 hy_X4_count rfl dX7_leaps_91 rfl rfl (Nat.le_of_ble_eq_true rfl) ⟨Nat.le_of_ble_eq_true rfl, Nat.le_of_ble_eq_true rfl⟩ ⟨Nat.le_of_ble_eq_true rfl, Nat.le_of_ble_eq_true rfl⟩ ?_
        cases h
        exact r_vret X hr dX7_leaps_94
      · exact V.sub [1, 2] rfl (ihb1 _ (Option.some.inj h).symm)
    have J58 : ∀ (v3_j58 : Int) (t0_j58 : Int) (t1_j58 : Nat) (σ_j58 : St), f_X7_leaps_j58 (a0) (p1) v3_j58 t0_j58 t1_j58 σ_j58 = some z1 → V Γ σ_j58 0 0 58 [(0, .ref (a0)), (1, .ref (p1)), (3, iv (v3_j58))] [iv (t0_j58), .ref (t1_j58)] := by
      intro v3_j58 t0_j58 t1_j58 σ_j58 h
      unfold f_X7_leaps_j58 at h
      obtain ⟨ho19, h⟩ := cO_some h
      rcases bT2_some h with ⟨r23, σ20, h18, h⟩ | ⟨xc21, σ22, h18, h⟩
      · refine r_cV (σ' := σ20) (kc := 0) (ks := 0) (Wd := 0) X (fun l D sz => w_X7_take l D sz h18) ho19.1 rfl q454 qs5 q452 q110 q455 hy_X7_take rfl dX7_leaps_58 rfl rfl (Nat.le_of_ble_eq_true rfl) ⟨Nat.le_of_ble_eq_true rfl, Nat.le_of_ble_eq_true rfl⟩ ⟨Nat.le_of_ble_eq_true rfl, Nat.le_of_ble_eq_true rfl⟩ ?_
        refine r_istore_n X dX7_leaps_61 rfl (hL 2 (by decide)) (lv' := [(2, iv (r23)), (0, .ref (a0)), (1, .ref (p1)), (3, iv (v3_j58))]) rfl ?_
        refine r_aload_n X 2 dX7_leaps_62 rfl rfl ?_
        refine r_iload_n X 3 dX7_leaps_63 rfl rfl ?_
        refine r_iload_n X 0 dX7_leaps_64 rfl rfl ?_
        refine r_bipush X dX7_leaps_65 (by decide) ?_
        refine r_icmp_ne (tgt := 74) X dX7_leaps_67 (by decide) h (fun c24 h => ?_) (fun c24 h => ?_)
        · refine r_iconst X dX7_leaps_70 ?_
          refine r_goto (tgt := 75) X dX7_leaps_71 (by decide) ?_
          exact V.sub [1, 2] rfl (J75 (1) (v3_j58) (p1) (σ20) h)
        · refine r_iconst X dX7_leaps_74 ?_
          exact V.sub [1, 2] rfl (J75 (0) (v3_j58) (p1) (σ20) h)
      · refine r_tV (σ' := σ22) (kc := 1) (ks := 7) (Wd := 0) X (fun l D sz => w_X7_take l D sz h18) ho19.1 rfl q454 qs5 q452 q110 q455 hy_X7_take rfl dX7_leaps_58 rfl (Nat.le_of_ble_eq_true rfl) ⟨Nat.le_of_ble_eq_true rfl, Nat.le_of_ble_eq_true rfl⟩ ⟨Nat.le_of_ble_eq_true rfl, Nat.le_of_ble_eq_true rfl⟩ ?_
        have h := ex_some h ihe1
        cases h
        exact r_out X hnoh hr
    have J53 : ∀ (v3_j53 : Int) (t0_j53 : Nat) (σ_j53 : St), f_X7_leaps_j53 (a0) (p1) v3_j53 t0_j53 σ_j53 = some z1 → V Γ σ_j53 0 0 53 [(0, .ref (a0)), (1, .ref (p1)), (3, iv (v3_j53))] [.ref (t0_j53)] := by
      intro v3_j53 t0_j53 σ_j53 h
      unfold f_X7_leaps_j53 at h
      refine r_iconst X dX7_leaps_53 ?_
      refine r_goto (tgt := 58) X dX7_leaps_54 (by decide) ?_
      exact V.sub [0, 1, 2] rfl (J58 (v3_j53) (1) (t0_j53) (σ_j53) h)
    refine r_aload_n X 1 dX7_leaps_5 rfl rfl ?_
    obtain ⟨ho25, h⟩ := cO_some h
    refine r_getI (kf := 3) X ho25.1 rfl (by decide) rfl (Or.inr ⟨_, q159⟩) dX7_leaps_6 ?_
    refine r_bipush X dX7_leaps_9 (by decide) ?_
    refine r_icmp_ne (tgt := 26) X dX7_leaps_11 (by decide) h (fun c26 h => ?_) (fun c26 h => ?_)
    · have h := ex_some h ihe1
      refine r_new (c := 7) (N := 7) X rfl rfl (by decide) q456 q457 q114 dX7_leaps_14 (by decide) (by decide) ?_
      refine r_let h (fun σ27 eσ27 h => ?_)
      have hk28 : cL σ27 (nX (σ_1)) = some 7 := by rw [eσ27, cL_nO, if_pos rfl]
      have ho29 : oc σ27 (nX (σ_1)) 7 := ⟨hk28, fun k hk => by cases hk⟩
      refine r_dup X dX7_leaps_17 rfl ?_
      refine r_aload_n X 0 dX7_leaps_18 rfl rfl ?_
      obtain ⟨ho30, h⟩ := cO_some h
      refine r_getI (kf := 0) X ho30.1 rfl (by decide) rfl (Or.inl q422) dX7_leaps_19 ?_
      obtain ⟨σ32, h31, h⟩ := bd_some h
      refine r_cI (Wd := 1) X (fun l D sz => w_X8_init l D sz h31) rfl rfl q497 q496 q114 q498 hy_X8_init rfl dX7_leaps_22 rfl rfl (Nat.le_of_ble_eq_true rfl) ⟨Nat.le_of_ble_eq_true rfl, Nat.le_of_ble_eq_true rfl⟩ ⟨Nat.le_of_ble_eq_true rfl, Nat.le_of_ble_eq_true rfl⟩ ?_
      refine r_athrow X dX7_leaps_25 ?_
      cases h
      exact r_out X hnoh hr
    · refine r_aload_n X 0 dX7_leaps_26 rfl rfl ?_
      refine r_iconst X dX7_leaps_27 ?_
      refine r_sipush X dX7_leaps_28 (by decide) ?_
      obtain ⟨ho34, h⟩ := cO_some h
      rcases bT2_some h with ⟨r38, σ35, h33, h⟩ | ⟨xc36, σ37, h33, h⟩
      · refine r_cV (σ' := σ35) (kc := 0) (ks := 0) (Wd := 0) X (fun l D sz => w_X7_number l D sz h33) ho34.1 rfl q438 qs1 q436 q110 q439 hy_X7_number rfl dX7_leaps_31 rfl rfl (Nat.le_of_ble_eq_true rfl) ⟨Nat.le_of_ble_eq_true rfl, Nat.le_of_ble_eq_true rfl⟩ ⟨Nat.le_of_ble_eq_true rfl, Nat.le_of_ble_eq_true rfl⟩ ?_
        refine r_istore_n X dX7_leaps_34 rfl (hL 3 (by decide)) (lv' := [(3, iv (r38)), (0, .ref (a0)), (1, .ref (p1))]) rfl ?_
        refine r_aload_n X 1 dX7_leaps_35 rfl rfl ?_
        obtain ⟨ho40, h⟩ := cO_some h
        obtain ⟨r41, σ42, h39, h⟩ := bd2_some h
        refine r_cV (Wd := 0) X (fun l D sz => w_X7_look l D sz h39) ho40.1 rfl q442 qs2 q440 q110 q443 hy_X7_look rfl dX7_leaps_36 rfl rfl (Nat.le_of_ble_eq_true rfl) ⟨Nat.le_of_ble_eq_true rfl, Nat.le_of_ble_eq_true rfl⟩ ⟨Nat.le_of_ble_eq_true rfl, Nat.le_of_ble_eq_true rfl⟩ ?_
        refine r_istore_n X dX7_leaps_39 rfl (hL 2 (by decide)) (lv' := [(2, iv (r41)), (3, iv (r38)), (0, .ref (a0)), (1, .ref (p1))]) rfl ?_
        refine r_aload_n X 2 dX7_leaps_40 rfl rfl ?_
        refine r_iload_n X 0 dX7_leaps_41 rfl rfl ?_
        refine r_bipush X dX7_leaps_42 (by decide) ?_
        refine r_icmp_eq (tgt := 53) X dX7_leaps_44 (by decide) h (fun c43 h => ?_) (fun c43 h => ?_)
        · exact V.sub [2, 3, 1] rfl (J53 (r38) (a0) (σ42) h)
        · refine r_iload_n X 0 dX7_leaps_47 rfl rfl ?_
          refine r_bipush X dX7_leaps_48 (by decide) ?_
          refine r_icmp_ne (tgt := 57) X dX7_leaps_50 (by decide) h (fun c44 h => ?_) (fun c44 h => ?_)
          · exact V.sub [2, 3, 1] rfl (J53 (r38) (a0) (σ42) h)
          · refine r_iconst X dX7_leaps_57 ?_
            exact V.sub [2, 3, 1] rfl (J58 (r38) (0) (a0) (σ42) h)
      · refine r_tV (σ' := σ37) (kc := 1) (ks := 7) (Wd := 0) X (fun l D sz => w_X7_number l D sz h33) ho34.1 rfl q438 qs1 q436 q110 q439 hy_X7_number rfl dX7_leaps_31 rfl (Nat.le_of_ble_eq_true rfl) ⟨Nat.le_of_ble_eq_true rfl, Nat.le_of_ble_eq_true rfl⟩ ⟨Nat.le_of_ble_eq_true rfl, Nat.le_of_ble_eq_true rfl⟩ ?_
        have h := ex_some h ihe1
        cases h
        exact r_out X hnoh hr
  exact V.sub [1, 2] rfl (L5 (σ3) h)
theorem hy_X7_change : yX7_change.cls ≠ "java/lang/invoke/MethodHandle" ∧ yX7_change.cls ≠ "java/lang/invoke/VarHandle" ∧ (parseMethodDescriptor yX7_change.desc).map (fun d => d.parameters.length) = some 1 := by decide +kernel
set_option maxHeartbeats 4000000 in
theorem w_X7_change (l : Launch) (D : DD) (sz : Nat) {σ : St} {a0 : Nat} {p1 : Nat} {w : St ⊕ (Nat × St)} (h : f_X7_change σ a0 p1 = some w) : Mt l yX7_change cX7_change 8 none ({ frames := 8, cells := 1, slots := 7, locals := 120 } : Room) D sz σ [.ref a0, .ref (p1)] (Sum.elim (fun q => Outcome.returned none) (fun q => Outcome.threw q.1) w) (Sum.elim (fun q => q) (fun q => q.2) w) (Sum.elim (fun _ => 0) (fun _ => 1) w) (Sum.elim (fun _ => 0) (fun _ => 7) w) := by
  refine Mt.of (by decide +kernel) (Nat.le_of_ble_eq_true rfl) ?_
  intro Γ X hr hnl hini hnoh
  have X : Cx Γ cX7_change "DayBoy$Reader" _ := X
  have hL : ∀ i, i < 8 → i < nLc Γ := fun i q => by rw [hnl]; exact q
  show V Γ σ 0 0 0 [(0, .ref (a0)), (1, .ref (p1))] []
  unfold f_X7_change at h
  obtain ⟨ho0, h⟩ := cO_some h
  have J86 : ∀ (v2_j86 : Nat) (v3_j86 : Int) (v4_j86 : Int) (t0_j86 : Int) (t1_j86 : Int) (t2_j86 : Nat) (σ_j86 : St), f_X7_change_j86 (a0) (p1) v2_j86 v3_j86 v4_j86 t0_j86 t1_j86 t2_j86 σ_j86 = some w → V Γ σ_j86 0 0 86 [(0, .ref (a0)), (1, .ref (p1)), (2, .ref (v2_j86)), (3, iv (v3_j86)), (4, iv (v4_j86))] [iv (t0_j86), iv (t1_j86), .ref (t2_j86)] := by
    intro v2_j86 v3_j86 v4_j86 t0_j86 t1_j86 t2_j86 σ_j86 h
    unfold f_X7_change_j86 at h
    obtain ⟨ho2, h⟩ := cO_some h
    rcases bT2_some h with ⟨r6, σ3, h1, h⟩ | ⟨xc4, σ5, h1, h⟩
    · refine r_cV (σ' := σ3) (kc := 0) (ks := 0) (Wd := 0) X (fun l D sz => w_X7_right l D sz h1) ho2.1 rfl q528 qs7 q526 q110 q529 hy_X7_right rfl dX7_change_86 rfl rfl (Nat.le_of_ble_eq_true rfl) ⟨Nat.le_of_ble_eq_true rfl, Nat.le_of_ble_eq_true rfl⟩ ⟨Nat.le_of_ble_eq_true rfl, Nat.le_of_ble_eq_true rfl⟩ ?_
      refine r_istore X dX7_change_89 (hL 5 (by decide)) (lv' := [(5, iv (r6)), (0, .ref (a0)), (1, .ref (p1)), (2, .ref (v2_j86)), (3, iv (v3_j86)), (4, iv (v4_j86))]) rfl ?_
      refine r_aload_n X 1 dX7_change_91 rfl rfl ?_
      refine r_bipush X dX7_change_92 (by decide) ?_
      obtain ⟨ho8, h⟩ := cO_some h
      rcases bT1_some h with ⟨σ9, h7, h⟩ | ⟨xc10, σ11, h7, h⟩
      · refine r_cV (σ' := σ9) (kc := 0) (ks := 0) (Wd := 0) X (fun l D sz => w_X7_takes l D sz h7) ho8.1 rfl q532 qs8 q530 q110 q533 hy_X7_takes rfl dX7_change_94 rfl rfl (Nat.le_of_ble_eq_true rfl) ⟨Nat.le_of_ble_eq_true rfl, Nat.le_of_ble_eq_true rfl⟩ ⟨Nat.le_of_ble_eq_true rfl, Nat.le_of_ble_eq_true rfl⟩ ?_
        refine r_aload_n X 1 dX7_change_97 rfl rfl ?_
        refine r_iconst X dX7_change_98 ?_
        refine r_bipush X dX7_change_99 (by decide) ?_
        obtain ⟨ho14, h⟩ := cO_some h
        rcases bT2_some h with ⟨r18, σ15, h13, h⟩ | ⟨xc16, σ17, h13, h⟩
        · refine r_cV (σ' := σ15) (kc := 0) (ks := 0) (Wd := 0) X (fun l D sz => w_X7_number l D sz h13) ho14.1 rfl q438 qs1 q436 q110 q439 hy_X7_number rfl dX7_change_101 rfl rfl (Nat.le_of_ble_eq_true rfl) ⟨Nat.le_of_ble_eq_true rfl, Nat.le_of_ble_eq_true rfl⟩ ⟨Nat.le_of_ble_eq_true rfl, Nat.le_of_ble_eq_true rfl⟩ ?_
          refine r_istore X dX7_change_104 (hL 6 (by decide)) (lv' := [(6, iv (r18)), (5, iv (r6)), (0, .ref (a0)), (1, .ref (p1)), (2, .ref (v2_j86)), (3, iv (v3_j86)), (4, iv (v4_j86))]) rfl ?_
          refine r_aload_n X 2 dX7_change_106 rfl rfl ?_
          refine r_bipush X dX7_change_107 (by decide) ?_
          obtain ⟨ho20, h⟩ := cO_some h
          rcases bT1_some h with ⟨σ21, h19, h⟩ | ⟨xc22, σ23, h19, h⟩
          · refine r_cV (σ' := σ21) (kc := 0) (ks := 0) (Wd := 0) X (fun l D sz => w_X7_takes l D sz h19) ho20.1 rfl q532 qs8 q530 q110 q533 hy_X7_takes rfl dX7_change_109 rfl rfl (Nat.le_of_ble_eq_true rfl) ⟨Nat.le_of_ble_eq_true rfl, Nat.le_of_ble_eq_true rfl⟩ ⟨Nat.le_of_ble_eq_true rfl, Nat.le_of_ble_eq_true rfl⟩ ?_
            refine r_aload_n X 4 dX7_change_112 rfl rfl ?_
            refine r_aload_n X 4 dX7_change_113 rfl rfl ?_
            obtain ⟨ho25, h⟩ := cO_some h
            refine r_getP (kf := 0) X ho25.1 rfl (by decide) rfl (Or.inr ⟨_, q174⟩) dX7_change_114 h (fun b26 h => ?_)
            refine r_iload_n X 5 dX7_change_117 rfl rfl ?_
            refine r_iload X 6 dX7_change_118 rfl ?_
            refine r_iload X 1 dX7_change_120 rfl ?_
            obtain ⟨ho28, h⟩ := cO_some h
            obtain ⟨r29, h27, h⟩ := bd_some h
            refine r_cV (Wd := 1) X (fun l D sz => w_X4_place l D sz h27) ho28.1 rfl q572 q573 q571 q107 q574 hy_X4_place rfl dX7_change_122 rfl rfl (Nat.le_of_ble_eq_true rfl) ⟨Nat.le_of_ble_eq_true rfl, Nat.le_of_ble_eq_true rfl⟩ ⟨Nat.le_of_ble_eq_true rfl, Nat.le_of_ble_eq_true rfl⟩ ?_
            refine r_putI (kf := 3) X ho25.1 rfl (by decide) rfl rfl (Or.inr ⟨_, q179⟩) dX7_change_125 rfl ?_
            refine r_let h (fun σ30 eσ30 h => ?_)
            refine r_aload_n X 3 dX7_change_128 rfl rfl ?_
            refine r_aload_n X 4 dX7_change_129 rfl rfl ?_
            refine r_iload_n X 5 dX7_change_130 rfl rfl ?_
            refine r_iload X 6 dX7_change_131 rfl ?_
            refine r_iload X 1 dX7_change_133 rfl ?_
            have hk32 : oc σ30 (v2_j86) 2 := by rw [eσ30]; exact ho25
            obtain ⟨r33, h31, h⟩ := bd_some h
            refine r_cV (Wd := 1) X (fun l D sz => w_X3_dayOf l D sz h31) hk32.1 rfl q588 q589 q587 q106 q590 hy_X3_dayOf rfl dX7_change_135 rfl rfl (Nat.le_of_ble_eq_true rfl) ⟨Nat.le_of_ble_eq_true rfl, Nat.le_of_ble_eq_true rfl⟩ ⟨Nat.le_of_ble_eq_true rfl, Nat.le_of_ble_eq_true rfl⟩ ?_
            refine r_iconst X dX7_change_138 ?_
            refine r_iadd X dX7_change_139 ?_
            obtain ⟨ho35, h⟩ := cO_some h
            obtain ⟨r36, σ37, h34, h⟩ := bd2_some h
            refine r_cV (Wd := 0) X (fun l D sz => w_X2_add l D sz h34) ho35.1 rfl q535 q536 q534 q105 q537 hy_X2_add rfl dX7_change_140 rfl rfl (Nat.le_of_ble_eq_true rfl) ⟨Nat.le_of_ble_eq_true rfl, Nat.le_of_ble_eq_true rfl⟩ ⟨Nat.le_of_ble_eq_true rfl, Nat.le_of_ble_eq_true rfl⟩ ?_
            refine r_astore X dX7_change_143 (hL 7 (by decide)) (lv' := [(7, .ref (r36)), (6, iv (r18)), (5, iv (r6)), (0, .ref (a0)), (1, .ref (p1)), (2, .ref (v2_j86)), (3, iv (v3_j86)), (4, iv (v4_j86))]) rfl ?_
            refine r_aload_n X 3 dX7_change_145 rfl rfl ?_
            refine r_aload X 0 dX7_change_146 rfl ?_
            obtain ⟨ho38, h⟩ := cO_some h
            refine r_getP (kf := 0) X ho38.1 rfl (by decide) rfl (Or.inr ⟨_, q174⟩) dX7_change_148 h (fun b39 h => ?_)
            obtain ⟨ho41, h⟩ := cO_some h
            rcases bT1_some h with ⟨σ42, h40, h⟩ | ⟨xc43, σ44, h40, h⟩
            · refine r_cV (σ' := σ42) (kc := 0) (ks := 0) (Wd := 0) X (fun l D sz => w_X7_leaps l D sz h40) ho41.1 rfl q548 qs9 q546 q110 q549 hy_X7_leaps rfl dX7_change_151 rfl rfl (Nat.le_of_ble_eq_true rfl) ⟨Nat.le_of_ble_eq_true rfl, Nat.le_of_ble_eq_true rfl⟩ ⟨Nat.le_of_ble_eq_true rfl, Nat.le_of_ble_eq_true rfl⟩ ?_
              refine r_aload X 0 dX7_change_154 rfl ?_
              refine r_aload X 0 dX7_change_156 rfl ?_
              obtain ⟨ho46, h⟩ := cO_some h
              refine r_getP (kf := 0) X ho46.1 rfl (by decide) rfl (Or.inr ⟨_, q174⟩) dX7_change_158 h (fun b47 h => ?_)
              refine r_iload_n X 6 dX7_change_161 rfl rfl ?_
              refine r_iload X 7 dX7_change_162 rfl ?_
              refine r_iload X 2 dX7_change_164 rfl ?_
              obtain ⟨ho49, h⟩ := cO_some h
              obtain ⟨r50, h48, h⟩ := bd_some h
              refine r_cV (Wd := 1) X (fun l D sz => w_X4_place l D sz h48) ho49.1 rfl q572 q573 q571 q107 q574 hy_X4_place rfl dX7_change_166 rfl rfl (Nat.le_of_ble_eq_true rfl) ⟨Nat.le_of_ble_eq_true rfl, Nat.le_of_ble_eq_true rfl⟩ ⟨Nat.le_of_ble_eq_true rfl, Nat.le_of_ble_eq_true rfl⟩ ?_
              refine r_iload X 1 dX7_change_169 rfl ?_
              refine r_iadd X dX7_change_171 ?_
              refine r_iconst X dX7_change_172 ?_
              refine r_iadd X dX7_change_173 ?_
              refine r_putI (kf := 2) X ho46.1 rfl (by decide) rfl rfl (Or.inr ⟨_, q177⟩) dX7_change_174 rfl ?_
              refine r_let h (fun σ51 eσ51 h => ?_)
              cases h
              exact r_vret X hr dX7_change_177
            · refine r_tV (σ' := σ44) (kc := 1) (ks := 7) (Wd := 0) X (fun l D sz => w_X7_leaps l D sz h40) ho41.1 rfl q548 qs9 q546 q110 q549 hy_X7_leaps rfl dX7_change_151 rfl (Nat.le_of_ble_eq_true rfl) ⟨Nat.le_of_ble_eq_true rfl, Nat.le_of_ble_eq_true rfl⟩ ⟨Nat.le_of_ble_eq_true rfl, Nat.le_of_ble_eq_true rfl⟩ ?_
              cases h
              exact r_out X hnoh hr
          · refine r_tV (σ' := σ23) (kc := 1) (ks := 7) (Wd := 0) X (fun l D sz => w_X7_takes l D sz h19) ho20.1 rfl q532 qs8 q530 q110 q533 hy_X7_takes rfl dX7_change_109 rfl (Nat.le_of_ble_eq_true rfl) ⟨Nat.le_of_ble_eq_true rfl, Nat.le_of_ble_eq_true rfl⟩ ⟨Nat.le_of_ble_eq_true rfl, Nat.le_of_ble_eq_true rfl⟩ ?_
            cases h
            exact r_out X hnoh hr
        · refine r_tV (σ' := σ17) (kc := 1) (ks := 7) (Wd := 0) X (fun l D sz => w_X7_number l D sz h13) ho14.1 rfl q438 qs1 q436 q110 q439 hy_X7_number rfl dX7_change_101 rfl (Nat.le_of_ble_eq_true rfl) ⟨Nat.le_of_ble_eq_true rfl, Nat.le_of_ble_eq_true rfl⟩ ⟨Nat.le_of_ble_eq_true rfl, Nat.le_of_ble_eq_true rfl⟩ ?_
          cases h
          exact r_out X hnoh hr
      · refine r_tV (σ' := σ11) (kc := 1) (ks := 7) (Wd := 0) X (fun l D sz => w_X7_takes l D sz h7) ho8.1 rfl q532 qs8 q530 q110 q533 hy_X7_takes rfl dX7_change_94 rfl (Nat.le_of_ble_eq_true rfl) ⟨Nat.le_of_ble_eq_true rfl, Nat.le_of_ble_eq_true rfl⟩ ⟨Nat.le_of_ble_eq_true rfl, Nat.le_of_ble_eq_true rfl⟩ ?_
        cases h
        exact r_out X hnoh hr
    · refine r_tV (σ' := σ5) (kc := 1) (ks := 7) (Wd := 0) X (fun l D sz => w_X7_right l D sz h1) ho2.1 rfl q528 qs7 q526 q110 q529 hy_X7_right rfl dX7_change_86 rfl (Nat.le_of_ble_eq_true rfl) ⟨Nat.le_of_ble_eq_true rfl, Nat.le_of_ble_eq_true rfl⟩ ⟨Nat.le_of_ble_eq_true rfl, Nat.le_of_ble_eq_true rfl⟩ ?_
      cases h
      exact r_out X hnoh hr
  have J85 : ∀ (v2_j85 : Nat) (v3_j85 : Int) (v4_j85 : Int) (t0_j85 : Int) (t1_j85 : Nat) (σ_j85 : St), f_X7_change_j85 (a0) (p1) v2_j85 v3_j85 v4_j85 t0_j85 t1_j85 σ_j85 = some w → V Γ σ_j85 0 0 85 [(0, .ref (a0)), (1, .ref (p1)), (2, .ref (v2_j85)), (3, iv (v3_j85)), (4, iv (v4_j85))] [iv (t0_j85), .ref (t1_j85)] := by
    intro v2_j85 v3_j85 v4_j85 t0_j85 t1_j85 σ_j85 h
    unfold f_X7_change_j85 at h
    refine r_iconst X dX7_change_85 ?_
    exact V.sub [0, 1, 2, 3, 4] rfl (J86 (v2_j85) (v3_j85) (v4_j85) (0) (t0_j85) (t1_j85) (σ_j85) h)
  refine r_aload_n X 1 dX7_change_0 rfl rfl ?_
  obtain ⟨ho53, h⟩ := cO_some h
  obtain ⟨r54, h52, h⟩ := bd_some h
  refine r_cV (Wd := 0) X (fun l D sz => w_X2_last l D sz h52) ho53.1 rfl q543 q544 q566 q105 q545 hy_X2_last rfl dX7_change_1 rfl rfl (Nat.le_of_ble_eq_true rfl) ⟨Nat.le_of_ble_eq_true rfl, Nat.le_of_ble_eq_true rfl⟩ ⟨Nat.le_of_ble_eq_true rfl, Nat.le_of_ble_eq_true rfl⟩ ?_
  refine r_astore_n X dX7_change_4 rfl (hL 2 (by decide)) (lv' := [(2, .ref (r54)), (0, .ref (a0)), (1, .ref (p1))]) rfl ?_
  refine r_aload_n X 1 dX7_change_5 rfl rfl ?_
  refine r_iconst X dX7_change_6 ?_
  refine r_sipush X dX7_change_7 (by decide) ?_
  rcases bT2_some h with ⟨r59, σ56, h55, h⟩ | ⟨xc57, σ58, h55, h⟩
  · refine r_cV (σ' := σ56) (kc := 0) (ks := 0) (Wd := 0) X (fun l D sz => w_X7_number l D sz h55) ho0.1 rfl q438 qs1 q436 q110 q439 hy_X7_number rfl dX7_change_10 rfl rfl (Nat.le_of_ble_eq_true rfl) ⟨Nat.le_of_ble_eq_true rfl, Nat.le_of_ble_eq_true rfl⟩ ⟨Nat.le_of_ble_eq_true rfl, Nat.le_of_ble_eq_true rfl⟩ ?_
    refine r_istore_n X dX7_change_13 rfl (hL 3 (by decide)) (lv' := [(3, iv (r59)), (2, .ref (r54)), (0, .ref (a0)), (1, .ref (p1))]) rfl ?_
    refine r_aload_n X 2 dX7_change_14 rfl rfl ?_
    refine r_bipush X dX7_change_15 (by decide) ?_
    obtain ⟨ho61, h⟩ := cO_some h
    rcases bT1_some h with ⟨σ62, h60, h⟩ | ⟨xc63, σ64, h60, h⟩
    · refine r_cV (σ' := σ62) (kc := 0) (ks := 0) (Wd := 0) X (fun l D sz => w_X7_takes l D sz h60) ho61.1 rfl q532 qs8 q530 q110 q533 hy_X7_takes rfl dX7_change_17 rfl rfl (Nat.le_of_ble_eq_true rfl) ⟨Nat.le_of_ble_eq_true rfl, Nat.le_of_ble_eq_true rfl⟩ ⟨Nat.le_of_ble_eq_true rfl, Nat.le_of_ble_eq_true rfl⟩ ?_
      refine r_aload_n X 2 dX7_change_20 rfl rfl ?_
      refine r_iconst X dX7_change_21 ?_
      refine r_bipush X dX7_change_22 (by decide) ?_
      obtain ⟨ho67, h⟩ := cO_some h
      rcases bT2_some h with ⟨r71, σ68, h66, h⟩ | ⟨xc69, σ70, h66, h⟩
      · refine r_cV (σ' := σ68) (kc := 0) (ks := 0) (Wd := 0) X (fun l D sz => w_X7_number l D sz h66) ho67.1 rfl q438 qs1 q436 q110 q439 hy_X7_number rfl dX7_change_24 rfl rfl (Nat.le_of_ble_eq_true rfl) ⟨Nat.le_of_ble_eq_true rfl, Nat.le_of_ble_eq_true rfl⟩ ⟨Nat.le_of_ble_eq_true rfl, Nat.le_of_ble_eq_true rfl⟩ ?_
        refine r_istore X dX7_change_27 (hL 4 (by decide)) (lv' := [(4, iv (r71)), (3, iv (r59)), (2, .ref (r54)), (0, .ref (a0)), (1, .ref (p1))]) rfl ?_
        refine r_aload_n X 3 dX7_change_29 rfl rfl ?_
        refine r_bipush X dX7_change_30 (by decide) ?_
        obtain ⟨ho73, h⟩ := cO_some h
        rcases bT1_some h with ⟨σ74, h72, h⟩ | ⟨xc75, σ76, h72, h⟩
        · refine r_cV (σ' := σ74) (kc := 0) (ks := 0) (Wd := 0) X (fun l D sz => w_X7_takes l D sz h72) ho73.1 rfl q532 qs8 q530 q110 q533 hy_X7_takes rfl dX7_change_32 rfl rfl (Nat.le_of_ble_eq_true rfl) ⟨Nat.le_of_ble_eq_true rfl, Nat.le_of_ble_eq_true rfl⟩ ⟨Nat.le_of_ble_eq_true rfl, Nat.le_of_ble_eq_true rfl⟩ ?_
          refine r_aload_n X 3 dX7_change_35 rfl rfl ?_
          refine r_iconst X dX7_change_36 ?_
          refine r_bipush X dX7_change_37 (by decide) ?_
          obtain ⟨ho79, h⟩ := cO_some h
          rcases bT2_some h with ⟨r83, σ80, h78, h⟩ | ⟨xc81, σ82, h78, h⟩
          · refine r_cV (σ' := σ80) (kc := 0) (ks := 0) (Wd := 0) X (fun l D sz => w_X7_number l D sz h78) ho79.1 rfl q438 qs1 q436 q110 q439 hy_X7_number rfl dX7_change_39 rfl rfl (Nat.le_of_ble_eq_true rfl) ⟨Nat.le_of_ble_eq_true rfl, Nat.le_of_ble_eq_true rfl⟩ ⟨Nat.le_of_ble_eq_true rfl, Nat.le_of_ble_eq_true rfl⟩ ?_
            refine r_istore X dX7_change_42 (hL 5 (by decide)) (lv' := [(5, iv (r83)), (4, iv (r71)), (3, iv (r59)), (2, .ref (r54)), (0, .ref (a0)), (1, .ref (p1))]) rfl ?_
            refine r_aload_n X 4 dX7_change_44 rfl rfl ?_
            refine r_iload X 0 dX7_change_45 rfl ?_
            refine r_iload X 0 dX7_change_47 rfl ?_
            refine r_aload_n X 3 dX7_change_49 rfl rfl ?_
            obtain ⟨ho84, h⟩ := cO_some h
            refine r_getP (kf := 0) X ho84.1 rfl (by decide) rfl (Or.inr ⟨_, q174⟩) dX7_change_50 h (fun b85 h => ?_)
            refine r_iload_n X 2 dX7_change_53 rfl rfl ?_
            refine r_iload X 1 dX7_change_54 rfl ?_
            obtain ⟨ho87, h⟩ := cO_some h
            obtain ⟨r88, h86, h⟩ := bd_some h
            refine r_cV (Wd := 3) X (fun l D sz => w_X4_length l D sz h86) ho87.1 rfl q568 q569 q567 q107 q570 hy_X4_length rfl dX7_change_56 rfl rfl (Nat.le_of_ble_eq_true rfl) ⟨Nat.le_of_ble_eq_true rfl, Nat.le_of_ble_eq_true rfl⟩ ⟨Nat.le_of_ble_eq_true rfl, Nat.le_of_ble_eq_true rfl⟩ ?_
            refine r_icmp_gt (tgt := 85) X dX7_change_59 (by decide) h (fun c89 h => ?_) (fun c89 h => ?_)
            · exact V.sub [4, 5, 3, 2, 1] rfl (J85 (r54) (r59) (r71) (r83) (a0) (σ80) h)
            · refine r_aload_n X 3 dX7_change_62 rfl rfl ?_
              refine r_getP (kf := 0) X ho84.1 rfl (by decide) rfl (Or.inr ⟨_, q174⟩) dX7_change_63 h (fun b90 h => ?_)
              refine r_iload_n X 2 dX7_change_66 rfl rfl ?_
              refine r_iload X 1 dX7_change_67 rfl ?_
              refine r_iload X 0 dX7_change_69 rfl ?_
              obtain ⟨ho92, h⟩ := cO_some h
              obtain ⟨r93, h91, h⟩ := bd_some h
              refine r_cV (Wd := 2) X (fun l D sz => w_X4_place l D sz h91) ho92.1 rfl q572 q573 q571 q107 q574 hy_X4_place rfl dX7_change_71 rfl rfl (Nat.le_of_ble_eq_true rfl) ⟨Nat.le_of_ble_eq_true rfl, Nat.le_of_ble_eq_true rfl⟩ ⟨Nat.le_of_ble_eq_true rfl, Nat.le_of_ble_eq_true rfl⟩ ?_
              refine r_aload_n X 3 dX7_change_74 rfl rfl ?_
              refine r_getI (kf := 2) X ho84.1 rfl (by decide) rfl (Or.inr ⟨_, q177⟩) dX7_change_75 ?_
              refine r_icmp_lt (tgt := 85) X dX7_change_78 (by decide) h (fun c94 h => ?_) (fun c94 h => ?_)
              · exact V.sub [4, 5, 3, 2, 1] rfl (J85 (r54) (r59) (r71) (r83) (a0) (σ80) h)
              · refine r_iconst X dX7_change_81 ?_
                refine r_goto (tgt := 86) X dX7_change_82 (by decide) ?_
                exact V.sub [4, 5, 3, 2, 1] rfl (J86 (r54) (r59) (r71) (1) (r83) (a0) (σ80) h)
          · refine r_tV (σ' := σ82) (kc := 1) (ks := 7) (Wd := 0) X (fun l D sz => w_X7_number l D sz h78) ho79.1 rfl q438 qs1 q436 q110 q439 hy_X7_number rfl dX7_change_39 rfl (Nat.le_of_ble_eq_true rfl) ⟨Nat.le_of_ble_eq_true rfl, Nat.le_of_ble_eq_true rfl⟩ ⟨Nat.le_of_ble_eq_true rfl, Nat.le_of_ble_eq_true rfl⟩ ?_
            cases h
            exact r_out X hnoh hr
        · refine r_tV (σ' := σ76) (kc := 1) (ks := 7) (Wd := 0) X (fun l D sz => w_X7_takes l D sz h72) ho73.1 rfl q532 qs8 q530 q110 q533 hy_X7_takes rfl dX7_change_32 rfl (Nat.le_of_ble_eq_true rfl) ⟨Nat.le_of_ble_eq_true rfl, Nat.le_of_ble_eq_true rfl⟩ ⟨Nat.le_of_ble_eq_true rfl, Nat.le_of_ble_eq_true rfl⟩ ?_
          cases h
          exact r_out X hnoh hr
      · refine r_tV (σ' := σ70) (kc := 1) (ks := 7) (Wd := 0) X (fun l D sz => w_X7_number l D sz h66) ho67.1 rfl q438 qs1 q436 q110 q439 hy_X7_number rfl dX7_change_24 rfl (Nat.le_of_ble_eq_true rfl) ⟨Nat.le_of_ble_eq_true rfl, Nat.le_of_ble_eq_true rfl⟩ ⟨Nat.le_of_ble_eq_true rfl, Nat.le_of_ble_eq_true rfl⟩ ?_
        cases h
        exact r_out X hnoh hr
    · refine r_tV (σ' := σ64) (kc := 1) (ks := 7) (Wd := 0) X (fun l D sz => w_X7_takes l D sz h60) ho61.1 rfl q532 qs8 q530 q110 q533 hy_X7_takes rfl dX7_change_17 rfl (Nat.le_of_ble_eq_true rfl) ⟨Nat.le_of_ble_eq_true rfl, Nat.le_of_ble_eq_true rfl⟩ ⟨Nat.le_of_ble_eq_true rfl, Nat.le_of_ble_eq_true rfl⟩ ?_
      cases h
      exact r_out X hnoh hr
  · refine r_tV (σ' := σ58) (kc := 1) (ks := 7) (Wd := 0) X (fun l D sz => w_X7_number l D sz h55) ho0.1 rfl q438 qs1 q436 q110 q439 hy_X7_number rfl dX7_change_10 rfl (Nat.le_of_ble_eq_true rfl) ⟨Nat.le_of_ble_eq_true rfl, Nat.le_of_ble_eq_true rfl⟩ ⟨Nat.le_of_ble_eq_true rfl, Nat.le_of_ble_eq_true rfl⟩ ?_
    cases h
    exact r_out X hnoh hr
theorem hy_X7_ends : yX7_ends.cls ≠ "java/lang/invoke/MethodHandle" ∧ yX7_ends.cls ≠ "java/lang/invoke/VarHandle" ∧ (parseMethodDescriptor yX7_ends.desc).map (fun d => d.parameters.length) = some 0 := by decide +kernel
set_option maxHeartbeats 4000000 in
theorem w_X7_ends (l : Launch) (D : DD) (sz : Nat) {σ : St} {a0 : Nat} {w : St ⊕ (Nat × St)} (h : f_X7_ends σ a0 = some w) : Mt l yX7_ends cX7_ends 1 none ({ frames := 5, cells := 1, slots := 7, locals := 74 } : Room) D sz σ [.ref a0] (Sum.elim (fun q => Outcome.returned none) (fun q => Outcome.threw q.1) w) (Sum.elim (fun q => q) (fun q => q.2) w) (Sum.elim (fun _ => 0) (fun _ => 1) w) (Sum.elim (fun _ => 0) (fun _ => 7) w) := by
  refine Mt.of (by decide +kernel) (Nat.le_of_ble_eq_true rfl) ?_
  intro Γ X hr hnl hini hnoh
  have X : Cx Γ cX7_ends "DayBoy$Reader" _ := X
  have hL : ∀ i, i < 1 → i < nLc Γ := fun i q => by rw [hnl]; exact q
  show V Γ σ 0 0 0 [(0, .ref (a0))] []
  unfold f_X7_ends at h
  obtain ⟨ho0, h⟩ := cO_some h
  refine r_aload_n X 0 dX7_ends_0 rfl rfl ?_
  obtain ⟨r2, σ3, h1, h⟩ := bd2_some h
  refine r_cV (Wd := 0) X (fun l D sz => w_X7_look l D sz h1) ho0.1 rfl q442 qs2 q440 q110 q443 hy_X7_look rfl dX7_ends_1 rfl rfl (Nat.le_of_ble_eq_true rfl) ⟨Nat.le_of_ble_eq_true rfl, Nat.le_of_ble_eq_true rfl⟩ ⟨Nat.le_of_ble_eq_true rfl, Nat.le_of_ble_eq_true rfl⟩ ?_
  refine r_iconst X dX7_ends_4 ?_
  refine r_icmp_eq (tgt := 20) X dX7_ends_5 (by decide) h (fun c4 h => ?_) (fun c4 h => ?_)
  · cases h
    exact r_vret X hr dX7_ends_20
  · refine r_new (c := 7) (N := 7) X rfl rfl (by decide) q456 q457 q114 dX7_ends_8 (by decide) (by decide) ?_
    refine r_let h (fun σ5 eσ5 h => ?_)
    have hk6 : cL σ5 (nX (σ3)) = some 7 := by rw [eσ5, cL_nO, if_pos rfl]
    have ho7 : oc σ5 (nX (σ3)) 7 := ⟨hk6, fun k hk => by cases hk⟩
    refine r_dup X dX7_ends_11 rfl ?_
    refine r_aload_n X 0 dX7_ends_12 rfl rfl ?_
    obtain ⟨ho8, h⟩ := cO_some h
    refine r_getI (kf := 0) X ho8.1 rfl (by decide) rfl (Or.inl q422) dX7_ends_13 ?_
    obtain ⟨σ10, h9, h⟩ := bd_some h
    refine r_cI (Wd := 1) X (fun l D sz => w_X8_init l D sz h9) rfl rfl q497 q496 q114 q498 hy_X8_init rfl dX7_ends_16 rfl rfl (Nat.le_of_ble_eq_true rfl) ⟨Nat.le_of_ble_eq_true rfl, Nat.le_of_ble_eq_true rfl⟩ ⟨Nat.le_of_ble_eq_true rfl, Nat.le_of_ble_eq_true rfl⟩ ?_
    refine r_athrow X dX7_ends_19 ?_
    cases h
    exact r_out X hnoh hr
theorem hy_X7_calendar : yX7_calendar.cls ≠ "java/lang/invoke/MethodHandle" ∧ yX7_calendar.cls ≠ "java/lang/invoke/VarHandle" ∧ (parseMethodDescriptor yX7_calendar.desc).map (fun d => d.parameters.length) = some 0 := by decide +kernel
set_option maxHeartbeats 4000000 in
theorem w_X7_calendar (l : Launch) (D : DD) (sz : Nat) {σ : St} {a0 : Nat} {w : St ⊕ (Nat × St)} (h : f_X7_calendar σ a0 = some w) : Mt l yX7_calendar cX7_calendar 4 none ({ frames := 9, cells := 1, slots := 7, locals := 139 } : Room) D sz σ [.ref a0] (Sum.elim (fun q => Outcome.returned none) (fun q => Outcome.threw q.1) w) (Sum.elim (fun q => q) (fun q => q.2) w) (Sum.elim (fun _ => 0) (fun _ => 1) w) (Sum.elim (fun _ => 0) (fun _ => 7) w) := by
  refine Mt.of (by decide +kernel) (Nat.le_of_ble_eq_true rfl) ?_
  intro Γ X hr hnl hini hnoh
  have X : Cx Γ cX7_calendar "DayBoy$Reader" _ := X
  have hL : ∀ i, i < 4 → i < nLc Γ := fun i q => by rw [hnl]; exact q
  show V Γ σ 0 0 0 [(0, .ref (a0))] []
  unfold f_X7_calendar at h
  obtain ⟨ho0, h⟩ := cO_some h
  refine r_aload_n X 0 dX7_calendar_0 rfl rfl ?_
  refine r_getP (kf := 2) X ho0.1 rfl (by decide) rfl (Or.inl q424) dX7_calendar_1 h (fun b1 h => ?_)
  obtain ⟨ho2, h⟩ := cO_some h
  refine r_getP (kf := 2) X ho2.1 rfl (by decide) rfl (Or.inr ⟨_, q307⟩) dX7_calendar_4 h (fun b3 h => ?_)
  refine r_astore_n X dX7_calendar_7 rfl (hL 1 (by decide)) (lv' := [(1, .ref (b3)), (0, .ref (a0))]) rfl ?_
  refine r_aload_n X 0 dX7_calendar_8 rfl rfl ?_
  refine r_iconst X dX7_calendar_9 ?_
  obtain ⟨ho4, h⟩ := cO_some h
  refine r_putI (kf := 1) X ho4.1 rfl (by decide) rfl rfl (Or.inr ⟨_, q191⟩) dX7_calendar_10 rfl ?_
  refine r_let h (fun σ5 eσ5 h => ?_)
  refine r_aload_n X 1 dX7_calendar_13 rfl rfl ?_
  refine r_iconst X dX7_calendar_14 ?_
  refine r_bipush X dX7_calendar_15 (by decide) ?_
  have hk7 : oc σ5 (a0) 6 := by rw [eσ5]; exact ho0
  rcases bT2_some h with ⟨r11, σ8, h6, h⟩ | ⟨xc9, σ10, h6, h⟩
  · refine r_cV (σ' := σ8) (kc := 0) (ks := 0) (Wd := 0) X (fun l D sz => w_X7_number l D sz h6) hk7.1 rfl q438 qs1 q436 q110 q439 hy_X7_number rfl dX7_calendar_17 rfl rfl (Nat.le_of_ble_eq_true rfl) ⟨Nat.le_of_ble_eq_true rfl, Nat.le_of_ble_eq_true rfl⟩ ⟨Nat.le_of_ble_eq_true rfl, Nat.le_of_ble_eq_true rfl⟩ ?_
    refine r_istore_n X dX7_calendar_20 rfl (hL 2 (by decide)) (lv' := [(2, iv (r11)), (1, .ref (b3)), (0, .ref (a0))]) rfl ?_
    refine r_aload_n X 2 dX7_calendar_21 rfl rfl ?_
    refine r_bipush X dX7_calendar_22 (by decide) ?_
    obtain ⟨ho13, h⟩ := cO_some h
    rcases bT1_some h with ⟨σ14, h12, h⟩ | ⟨xc15, σ16, h12, h⟩
    · refine r_cV (σ' := σ14) (kc := 0) (ks := 0) (Wd := 0) X (fun l D sz => w_X7_takes l D sz h12) ho13.1 rfl q532 qs8 q530 q110 q533 hy_X7_takes rfl dX7_calendar_24 rfl rfl (Nat.le_of_ble_eq_true rfl) ⟨Nat.le_of_ble_eq_true rfl, Nat.le_of_ble_eq_true rfl⟩ ⟨Nat.le_of_ble_eq_true rfl, Nat.le_of_ble_eq_true rfl⟩ ?_
      refine r_aload_n X 2 dX7_calendar_27 rfl rfl ?_
      refine r_aload_n X 1 dX7_calendar_28 rfl rfl ?_
      refine r_iload_n X 0 dX7_calendar_29 rfl rfl ?_
      obtain ⟨ho19, h⟩ := cO_some h
      obtain ⟨r20, σ21, h18, h⟩ := bd2_some h
      refine r_cV (Wd := 1) X (fun l D sz => w_X2_add l D sz h18) ho19.1 rfl q535 q536 q534 q105 q537 hy_X2_add rfl dX7_calendar_30 rfl rfl (Nat.le_of_ble_eq_true rfl) ⟨Nat.le_of_ble_eq_true rfl, Nat.le_of_ble_eq_true rfl⟩ ⟨Nat.le_of_ble_eq_true rfl, Nat.le_of_ble_eq_true rfl⟩ ?_
      obtain ⟨ho22, h⟩ := cO_some h
      refine r_getP (kf := 0) X ho22.1 rfl (by decide) rfl (Or.inr ⟨_, q174⟩) dX7_calendar_33 h (fun b23 h => ?_)
      obtain ⟨ho25, h⟩ := cO_some h
      rcases bT1_some h with ⟨σ26, h24, h⟩ | ⟨xc27, σ28, h24, h⟩
      · refine r_cV (σ' := σ26) (kc := 0) (ks := 0) (Wd := 0) X (fun l D sz => w_X7_leaps l D sz h24) ho25.1 rfl q548 qs9 q546 q110 q549 hy_X7_leaps rfl dX7_calendar_36 rfl rfl (Nat.le_of_ble_eq_true rfl) ⟨Nat.le_of_ble_eq_true rfl, Nat.le_of_ble_eq_true rfl⟩ ⟨Nat.le_of_ble_eq_true rfl, Nat.le_of_ble_eq_true rfl⟩ ?_
        have L39 : ∀ s : St, lp (fun s => f_X7_calendar_b39 (a0) (b3) s) s = some w → V Γ (s) 0 0 39 [(0, .ref (a0)), (1, .ref (b3))] [] := by
          refine lp_rule (P := fun s : St => V Γ (s) 0 0 39 [(0, .ref (a0)), (1, .ref (b3))] []) ?_
          intro s z1 h ihb1 ihe1
          obtain ⟨σ_1, es⟩ : ∃ q, q = s := ⟨s, rfl⟩
          subst es
          have h : f_X7_calendar_b39 (a0) (b3) σ_1 = some z1 := h
          unfold f_X7_calendar_b39 at h
          show V Γ σ_1 0 0 39 [(0, .ref (a0)), (1, .ref (b3))] []
          have J62 : ∀ (t0_j62 : Int) (t1_j62 : Nat) (σ_j62 : St), f_X7_calendar_j62 (a0) (b3) t0_j62 t1_j62 σ_j62 = some z1 → V Γ σ_j62 0 0 62 [(0, .ref (a0)), (1, .ref (b3))] [iv (t0_j62), .ref (t1_j62)] := by
            intro t0_j62 t1_j62 σ_j62 h
            unfold f_X7_calendar_j62 at h
            obtain ⟨ho31, h⟩ := cO_some h
            rcases bT2_some h with ⟨r35, σ32, h30, h⟩ | ⟨xc33, σ34, h30, h⟩
            · refine r_cV (σ' := σ32) (kc := 0) (ks := 0) (Wd := 0) X (fun l D sz => w_X7_take l D sz h30) ho31.1 rfl q454 qs5 q452 q110 q455 hy_X7_take rfl dX7_calendar_62 rfl rfl (Nat.le_of_ble_eq_true rfl) ⟨Nat.le_of_ble_eq_true rfl, Nat.le_of_ble_eq_true rfl⟩ ⟨Nat.le_of_ble_eq_true rfl, Nat.le_of_ble_eq_true rfl⟩ ?_
              refine r_istore_n X dX7_calendar_65 rfl (hL 3 (by decide)) (lv' := [(3, iv (r35)), (0, .ref (a0)), (1, .ref (b3))]) rfl ?_
              refine r_aload_n X 1 dX7_calendar_66 rfl rfl ?_
              refine r_aload_n X 2 dX7_calendar_67 rfl rfl ?_
              obtain ⟨ho37, h⟩ := cO_some h
              rcases bT1_some h with ⟨σ38, h36, h⟩ | ⟨xc39, σ40, h36, h⟩
              · refine r_cV (σ' := σ38) (kc := 0) (ks := 0) (Wd := 0) X (fun l D sz => w_X7_change l D sz h36) ho37.1 rfl q564 qs10 q562 q110 q565 hy_X7_change rfl dX7_calendar_68 rfl rfl (Nat.le_of_ble_eq_true rfl) ⟨Nat.le_of_ble_eq_true rfl, Nat.le_of_ble_eq_true rfl⟩ ⟨Nat.le_of_ble_eq_true rfl, Nat.le_of_ble_eq_true rfl⟩ ?_
                refine r_goto (tgt := 39) X dX7_calendar_71 (by decide) ?_
                exact V.sub [1, 2] rfl (ihb1 _ (Option.some.inj h).symm)
              · refine r_tV (σ' := σ40) (kc := 1) (ks := 7) (Wd := 0) X (fun l D sz => w_X7_change l D sz h36) ho37.1 rfl q564 qs10 q562 q110 q565 hy_X7_change rfl dX7_calendar_68 rfl (Nat.le_of_ble_eq_true rfl) ⟨Nat.le_of_ble_eq_true rfl, Nat.le_of_ble_eq_true rfl⟩ ⟨Nat.le_of_ble_eq_true rfl, Nat.le_of_ble_eq_true rfl⟩ ?_
                have h := ex_some h ihe1
                cases h
                exact r_out X hnoh hr
            · refine r_tV (σ' := σ34) (kc := 1) (ks := 7) (Wd := 0) X (fun l D sz => w_X7_take l D sz h30) ho31.1 rfl q454 qs5 q452 q110 q455 hy_X7_take rfl dX7_calendar_62 rfl (Nat.le_of_ble_eq_true rfl) ⟨Nat.le_of_ble_eq_true rfl, Nat.le_of_ble_eq_true rfl⟩ ⟨Nat.le_of_ble_eq_true rfl, Nat.le_of_ble_eq_true rfl⟩ ?_
              have h := ex_some h ihe1
              cases h
              exact r_out X hnoh hr
          refine r_aload_n X 0 dX7_calendar_39 rfl rfl ?_
          obtain ⟨ho43, h⟩ := cO_some h
          obtain ⟨r44, σ45, h42, h⟩ := bd2_some h
          refine r_cV (Wd := 0) X (fun l D sz => w_X7_look l D sz h42) ho43.1 rfl q442 qs2 q440 q110 q443 hy_X7_look rfl dX7_calendar_40 rfl rfl (Nat.le_of_ble_eq_true rfl) ⟨Nat.le_of_ble_eq_true rfl, Nat.le_of_ble_eq_true rfl⟩ ⟨Nat.le_of_ble_eq_true rfl, Nat.le_of_ble_eq_true rfl⟩ ?_
          refine r_bipush X dX7_calendar_43 (by decide) ?_
          refine r_icmp_ne (tgt := 74) X dX7_calendar_45 (by decide) h (fun c46 h => ?_) (fun c46 h => ?_)
          · refine r_aload_n X 0 dX7_calendar_48 rfl rfl ?_
            refine r_aload_n X 1 dX7_calendar_49 rfl rfl ?_
            obtain ⟨ho47, h⟩ := cO_some h
            refine r_getI (kf := 1) X ho47.1 rfl (by decide) rfl (Or.inr ⟨_, q191⟩) dX7_calendar_50 ?_
            refine r_iconst X dX7_calendar_53 ?_
            refine r_icmp_gt (tgt := 61) X dX7_calendar_54 (by decide) h (fun c48 h => ?_) (fun c48 h => ?_)
            · refine r_iconst X dX7_calendar_61 ?_
              exact V.sub [0, 1] rfl (J62 (0) (a0) (σ45) h)
            · refine r_iconst X dX7_calendar_57 ?_
              refine r_goto (tgt := 62) X dX7_calendar_58 (by decide) ?_
              exact V.sub [0, 1] rfl (J62 (1) (a0) (σ45) h)
          · have h := ex_some h ihe1
            refine r_aload_n X 0 dX7_calendar_74 rfl rfl ?_
            obtain ⟨ho50, h⟩ := cO_some h
            rcases bT1_some h with ⟨σ51, h49, h⟩ | ⟨xc52, σ53, h49, h⟩
            · refine r_cV (σ' := σ51) (kc := 0) (ks := 0) (Wd := 0) X (fun l D sz => w_X7_ends l D sz h49) ho50.1 rfl q594 qs13 q592 q110 q595 hy_X7_ends rfl dX7_calendar_75 rfl rfl (Nat.le_of_ble_eq_true rfl) ⟨Nat.le_of_ble_eq_true rfl, Nat.le_of_ble_eq_true rfl⟩ ⟨Nat.le_of_ble_eq_true rfl, Nat.le_of_ble_eq_true rfl⟩ ?_
              refine r_aload_n X 1 dX7_calendar_78 rfl rfl ?_
              obtain ⟨ho56, h⟩ := cO_some h
              obtain ⟨r57, h55, h⟩ := bd_some h
              refine r_cV (Wd := 0) X (fun l D sz => w_X2_last l D sz h55) ho56.1 rfl q543 q544 q566 q105 q545 hy_X2_last rfl dX7_calendar_79 rfl rfl (Nat.le_of_ble_eq_true rfl) ⟨Nat.le_of_ble_eq_true rfl, Nat.le_of_ble_eq_true rfl⟩ ⟨Nat.le_of_ble_eq_true rfl, Nat.le_of_ble_eq_true rfl⟩ ?_
              refine r_aload_n X 1 dX7_calendar_82 rfl rfl ?_
              obtain ⟨r59, h58, h⟩ := bd_some h
              refine r_cV (Wd := 1) X (fun l D sz => w_X2_last l D sz h58) ho56.1 rfl q543 q544 q566 q105 q545 hy_X2_last rfl dX7_calendar_83 rfl rfl (Nat.le_of_ble_eq_true rfl) ⟨Nat.le_of_ble_eq_true rfl, Nat.le_of_ble_eq_true rfl⟩ ⟨Nat.le_of_ble_eq_true rfl, Nat.le_of_ble_eq_true rfl⟩ ?_
              obtain ⟨ho60, h⟩ := cO_some h
              refine r_getP (kf := 0) X ho60.1 rfl (by decide) rfl (Or.inr ⟨_, q174⟩) dX7_calendar_86 h (fun b61 h => ?_)
              refine r_sipush X dX7_calendar_89 (by decide) ?_
              refine r_bipush X dX7_calendar_92 (by decide) ?_
              refine r_bipush X dX7_calendar_94 (by decide) ?_
              obtain ⟨ho63, h⟩ := cO_some h
              obtain ⟨r64, h62, h⟩ := bd_some h
              refine r_cV (Wd := 1) X (fun l D sz => w_X4_place l D sz h62) ho63.1 rfl q572 q573 q571 q107 q574 hy_X4_place rfl dX7_calendar_96 rfl rfl (Nat.le_of_ble_eq_true rfl) ⟨Nat.le_of_ble_eq_true rfl, Nat.le_of_ble_eq_true rfl⟩ ⟨Nat.le_of_ble_eq_true rfl, Nat.le_of_ble_eq_true rfl⟩ ?_
              obtain ⟨ho65, h⟩ := cO_some h
              refine r_putI (kf := 3) X ho65.1 rfl (by decide) rfl rfl (Or.inr ⟨_, q179⟩) dX7_calendar_99 rfl ?_
              refine r_let h (fun σ66 eσ66 h => ?_)
              cases h
              exact r_vret X hr dX7_calendar_102
            · refine r_tV (σ' := σ53) (kc := 1) (ks := 7) (Wd := 0) X (fun l D sz => w_X7_ends l D sz h49) ho50.1 rfl q594 qs13 q592 q110 q595 hy_X7_ends rfl dX7_calendar_75 rfl (Nat.le_of_ble_eq_true rfl) ⟨Nat.le_of_ble_eq_true rfl, Nat.le_of_ble_eq_true rfl⟩ ⟨Nat.le_of_ble_eq_true rfl, Nat.le_of_ble_eq_true rfl⟩ ?_
              cases h
              exact r_out X hnoh hr
        exact V.sub [2, 1] rfl (L39 (σ26) h)
      · refine r_tV (σ' := σ28) (kc := 1) (ks := 7) (Wd := 0) X (fun l D sz => w_X7_leaps l D sz h24) ho25.1 rfl q548 qs9 q546 q110 q549 hy_X7_leaps rfl dX7_calendar_36 rfl (Nat.le_of_ble_eq_true rfl) ⟨Nat.le_of_ble_eq_true rfl, Nat.le_of_ble_eq_true rfl⟩ ⟨Nat.le_of_ble_eq_true rfl, Nat.le_of_ble_eq_true rfl⟩ ?_
        cases h
        exact r_out X hnoh hr
    · refine r_tV (σ' := σ16) (kc := 1) (ks := 7) (Wd := 0) X (fun l D sz => w_X7_takes l D sz h12) ho13.1 rfl q532 qs8 q530 q110 q533 hy_X7_takes rfl dX7_calendar_24 rfl (Nat.le_of_ble_eq_true rfl) ⟨Nat.le_of_ble_eq_true rfl, Nat.le_of_ble_eq_true rfl⟩ ⟨Nat.le_of_ble_eq_true rfl, Nat.le_of_ble_eq_true rfl⟩ ?_
      cases h
      exact r_out X hnoh hr
  · refine r_tV (σ' := σ10) (kc := 1) (ks := 7) (Wd := 0) X (fun l D sz => w_X7_number l D sz h6) hk7.1 rfl q438 qs1 q436 q110 q439 hy_X7_number rfl dX7_calendar_17 rfl (Nat.le_of_ble_eq_true rfl) ⟨Nat.le_of_ble_eq_true rfl, Nat.le_of_ble_eq_true rfl⟩ ⟨Nat.le_of_ble_eq_true rfl, Nat.le_of_ble_eq_true rfl⟩ ?_
    cases h
    exact r_out X hnoh hr
theorem hy_X7_range : yX7_range.cls ≠ "java/lang/invoke/MethodHandle" ∧ yX7_range.cls ≠ "java/lang/invoke/VarHandle" ∧ (parseMethodDescriptor yX7_range.desc).map (fun d => d.parameters.length) = some 0 := by decide +kernel
set_option maxHeartbeats 4000000 in
theorem w_X7_range (l : Launch) (D : DD) (sz : Nat) {σ : St} {a0 : Nat} {w : (Nat × St) ⊕ (Nat × St)} (h : f_X7_range σ a0 = some w) : Mt l yX7_range cX7_range 2 (some (FieldType.object "DayBoy$Item")) ({ frames := 7, cells := 2, slots := 9, locals := 108 } : Room) D sz σ [.ref a0] (Sum.elim (fun q => Outcome.returned (some (.ref q.1))) (fun q => Outcome.threw q.1) w) (Sum.elim (fun q => q.2) (fun q => q.2) w) (Sum.elim (fun _ => 1) (fun _ => 2) w) (Sum.elim (fun _ => 2) (fun _ => 9) w) := by
  refine Mt.of (by decide +kernel) (Nat.le_of_ble_eq_true rfl) ?_
  intro Γ X hr hnl hini hnoh
  have X : Cx Γ cX7_range "DayBoy$Reader" _ := X
  have hL : ∀ i, i < 2 → i < nLc Γ := fun i q => by rw [hnl]; exact q
  show V Γ σ 0 0 0 [(0, .ref (a0))] []
  unfold f_X7_range at h
  obtain ⟨ho0, h⟩ := cO_some h
  refine r_aload_n X 0 dX7_range_0 rfl rfl ?_
  refine r_iconst X dX7_range_1 ?_
  refine r_sipush X dX7_range_2 (by decide) ?_
  rcases bT2_some h with ⟨r5, σ2, h1, h⟩ | ⟨xc3, σ4, h1, h⟩
  · refine r_cV (σ' := σ2) (kc := 0) (ks := 0) (Wd := 0) X (fun l D sz => w_X7_number l D sz h1) ho0.1 rfl q438 qs1 q436 q110 q439 hy_X7_number rfl dX7_range_5 rfl rfl (Nat.le_of_ble_eq_true rfl) ⟨Nat.le_of_ble_eq_true rfl, Nat.le_of_ble_eq_true rfl⟩ ⟨Nat.le_of_ble_eq_true rfl, Nat.le_of_ble_eq_true rfl⟩ ?_
    refine r_istore_n X dX7_range_8 rfl (hL 1 (by decide)) (lv' := [(1, iv (r5)), (0, .ref (a0))]) rfl ?_
    refine r_aload_n X 1 dX7_range_9 rfl rfl ?_
    refine r_bipush X dX7_range_10 (by decide) ?_
    obtain ⟨ho7, h⟩ := cO_some h
    rcases bT1_some h with ⟨σ8, h6, h⟩ | ⟨xc9, σ10, h6, h⟩
    · refine r_cV (σ' := σ8) (kc := 0) (ks := 0) (Wd := 0) X (fun l D sz => w_X7_takes l D sz h6) ho7.1 rfl q532 qs8 q530 q110 q533 hy_X7_takes rfl dX7_range_12 rfl rfl (Nat.le_of_ble_eq_true rfl) ⟨Nat.le_of_ble_eq_true rfl, Nat.le_of_ble_eq_true rfl⟩ ⟨Nat.le_of_ble_eq_true rfl, Nat.le_of_ble_eq_true rfl⟩ ?_
      refine r_new (c := 8) (N := 2) X rfl rfl (by decide) q612 q613 q117 dX7_range_15 (by decide) (by decide) ?_
      refine r_let h (fun σ12 eσ12 h => ?_)
      have hk13 : cL σ12 (nX (σ8)) = some 8 := by rw [eσ12, cL_nO, if_pos rfl]
      have ho14 : oc σ12 (nX (σ8)) 8 := ⟨hk13, fun k hk => by cases hk⟩
      refine r_dup X dX7_range_18 rfl ?_
      refine r_iload_n X 0 dX7_range_19 rfl rfl ?_
      refine r_aload_n X 1 dX7_range_20 rfl rfl ?_
      refine r_iload_n X 0 dX7_range_21 rfl rfl ?_
      refine r_sipush X dX7_range_22 (by decide) ?_
      obtain ⟨ho16, h⟩ := cO_some h
      rcases bT2_some h with ⟨r20, σ17, h15, h⟩ | ⟨xc18, σ19, h15, h⟩
      · refine r_cV (σ' := σ17) (kc := 0) (ks := 0) (Wd := 3) X (fun l D sz => w_X7_number l D sz h15) ho16.1 rfl q438 qs1 q436 q110 q439 hy_X7_number rfl dX7_range_25 rfl rfl (Nat.le_of_ble_eq_true rfl) ⟨Nat.le_of_ble_eq_true rfl, Nat.le_of_ble_eq_true rfl⟩ ⟨Nat.le_of_ble_eq_true rfl, Nat.le_of_ble_eq_true rfl⟩ ?_
        obtain ⟨σ22, h21, h⟩ := bd_some h
        refine r_cI (Wd := 1) X (fun l D sz => w_X10_init l D sz h21) rfl rfl q615 q614 q117 q616 hy_X10_init rfl dX7_range_28 rfl rfl (Nat.le_of_ble_eq_true rfl) ⟨Nat.le_of_ble_eq_true rfl, Nat.le_of_ble_eq_true rfl⟩ ⟨Nat.le_of_ble_eq_true rfl, Nat.le_of_ble_eq_true rfl⟩ ?_
        cases h
        exact r_aret (q := some _) X hr dX7_range_31
      · refine r_tV (σ' := σ19) (kc := 1) (ks := 7) (Wd := 3) X (fun l D sz => w_X7_number l D sz h15) ho16.1 rfl q438 qs1 q436 q110 q439 hy_X7_number rfl dX7_range_25 rfl (Nat.le_of_ble_eq_true rfl) ⟨Nat.le_of_ble_eq_true rfl, Nat.le_of_ble_eq_true rfl⟩ ⟨Nat.le_of_ble_eq_true rfl, Nat.le_of_ble_eq_true rfl⟩ ?_
        cases h
        exact r_out X hnoh hr
    · refine r_tV (σ' := σ10) (kc := 1) (ks := 7) (Wd := 0) X (fun l D sz => w_X7_takes l D sz h6) ho7.1 rfl q532 qs8 q530 q110 q533 hy_X7_takes rfl dX7_range_12 rfl (Nat.le_of_ble_eq_true rfl) ⟨Nat.le_of_ble_eq_true rfl, Nat.le_of_ble_eq_true rfl⟩ ⟨Nat.le_of_ble_eq_true rfl, Nat.le_of_ble_eq_true rfl⟩ ?_
      cases h
      exact VT.widen (by show _ ≤ 2; omega) (by show _ ≤ 9; omega) <| r_out X hnoh hr
  · refine r_tV (σ' := σ4) (kc := 1) (ks := 7) (Wd := 0) X (fun l D sz => w_X7_number l D sz h1) ho0.1 rfl q438 qs1 q436 q110 q439 hy_X7_number rfl dX7_range_5 rfl (Nat.le_of_ble_eq_true rfl) ⟨Nat.le_of_ble_eq_true rfl, Nat.le_of_ble_eq_true rfl⟩ ⟨Nat.le_of_ble_eq_true rfl, Nat.le_of_ble_eq_true rfl⟩ ?_
    cases h
    exact VT.widen (by show _ ≤ 2; omega) (by show _ ≤ 9; omega) <| r_out X hnoh hr
theorem hy_X7_step : yX7_step.cls ≠ "java/lang/invoke/MethodHandle" ∧ yX7_step.cls ≠ "java/lang/invoke/VarHandle" ∧ (parseMethodDescriptor yX7_step.desc).map (fun d => d.parameters.length) = some 1 := by decide +kernel
set_option maxHeartbeats 4000000 in
theorem w_X7_step (l : Launch) (D : DD) (sz : Nat) {σ : St} {a0 : Nat} {p1 : Nat} {w : (Nat × St) ⊕ (Nat × St)} (h : f_X7_step σ a0 p1 = some w) : Mt l yX7_step cX7_step 4 (some (FieldType.object "DayBoy$Item")) ({ frames := 7, cells := 2, slots := 9, locals := 108 } : Room) D sz σ [.ref a0, .ref (p1)] (Sum.elim (fun q => Outcome.returned (some (.ref q.1))) (fun q => Outcome.threw q.1) w) (Sum.elim (fun q => q.2) (fun q => q.2) w) (Sum.elim (fun _ => 1) (fun _ => 2) w) (Sum.elim (fun _ => 2) (fun _ => 9) w) := by
  refine Mt.of (by decide +kernel) (Nat.le_of_ble_eq_true rfl) ?_
  intro Γ X hr hnl hini hnoh
  have X : Cx Γ cX7_step "DayBoy$Reader" _ := X
  have hL : ∀ i, i < 4 → i < nLc Γ := fun i q => by rw [hnl]; exact q
  show V Γ σ 0 0 0 [(0, .ref (a0)), (1, .ref (p1))] []
  unfold f_X7_step at h
  obtain ⟨ho0, h⟩ := cO_some h
  refine r_aload_n X 0 dX7_step_0 rfl rfl ?_
  refine r_iconst X dX7_step_1 ?_
  refine r_sipush X dX7_step_2 (by decide) ?_
  rcases bT2_some h with ⟨r5, σ2, h1, h⟩ | ⟨xc3, σ4, h1, h⟩
  · refine r_cV (σ' := σ2) (kc := 0) (ks := 0) (Wd := 0) X (fun l D sz => w_X7_number l D sz h1) ho0.1 rfl q438 qs1 q436 q110 q439 hy_X7_number rfl dX7_step_5 rfl rfl (Nat.le_of_ble_eq_true rfl) ⟨Nat.le_of_ble_eq_true rfl, Nat.le_of_ble_eq_true rfl⟩ ⟨Nat.le_of_ble_eq_true rfl, Nat.le_of_ble_eq_true rfl⟩ ?_
    refine r_istore_n X dX7_step_8 rfl (hL 2 (by decide)) (lv' := [(2, iv (r5)), (0, .ref (a0)), (1, .ref (p1))]) rfl ?_
    refine r_iconst X dX7_step_9 ?_
    refine r_istore_n X dX7_step_10 rfl (hL 3 (by decide)) (lv' := [(3, iv (0)), (2, iv (r5)), (0, .ref (a0)), (1, .ref (p1))]) rfl ?_
    have L11 : ∀ s : Int × Int × St, lp (fun s => f_X7_step_b11 (a0) (p1) s.1 s.2.1 s.2.2) s = some w → V Γ (s.2.2) 0 0 11 [(0, .ref (a0)), (1, .ref (p1)), (2, iv (s.1)), (3, iv (s.2.1))] [] := by
      refine lp_rule (P := fun s : Int × Int × St => V Γ (s.2.2) 0 0 11 [(0, .ref (a0)), (1, .ref (p1)), (2, iv (s.1)), (3, iv (s.2.1))] []) ?_
      intro s z1 h ihb1 ihe1
      obtain ⟨v2_1, v3_1, σ_1⟩ := s
      have h : f_X7_step_b11 (a0) (p1) v2_1 v3_1 σ_1 = some z1 := h
      unfold f_X7_step_b11 at h
      show V Γ σ_1 0 0 11 [(0, .ref (a0)), (1, .ref (p1)), (2, iv (v2_1)), (3, iv (v3_1))] []
      have J36 : ∀ (v3_j36 : Int) (t0_j36 : Int) (t1_j36 : Int) (t2_j36 : Nat) (σ_j36 : St), f_X7_step_j36 (a0) (p1) v3_j36 t0_j36 t1_j36 t2_j36 σ_j36 = some z1 → V Γ σ_j36 0 0 36 [(0, .ref (a0)), (1, .ref (p1)), (3, iv (v3_j36))] [iv (t0_j36), iv (t1_j36), .ref (t2_j36)] := by
        intro v3_j36 t0_j36 t1_j36 t2_j36 σ_j36 h
        unfold f_X7_step_j36 at h
        obtain ⟨ho7, h⟩ := cO_some h
        rcases bT2_some h with ⟨r11, σ8, h6, h⟩ | ⟨xc9, σ10, h6, h⟩
        · refine r_cV (σ' := σ8) (kc := 0) (ks := 0) (Wd := 0) X (fun l D sz => w_X7_right l D sz h6) ho7.1 rfl q528 qs7 q526 q110 q529 hy_X7_right rfl dX7_step_36 rfl rfl (Nat.le_of_ble_eq_true rfl) ⟨Nat.le_of_ble_eq_true rfl, Nat.le_of_ble_eq_true rfl⟩ ⟨Nat.le_of_ble_eq_true rfl, Nat.le_of_ble_eq_true rfl⟩ ?_
          refine r_istore_n X dX7_step_39 rfl (hL 2 (by decide)) (lv' := [(2, iv (r11)), (0, .ref (a0)), (1, .ref (p1)), (3, iv (v3_j36))]) rfl ?_
          refine r_iinc X 3 dX7_step_40 rfl (hL 3 (by decide)) (lv' := [(3, iv ((v3_j36 + 1))), (2, iv (r11)), (0, .ref (a0)), (1, .ref (p1))]) rfl ?_
          refine r_goto (tgt := 11) X dX7_step_43 (by decide) ?_
          exact V.sub [2, 3, 1, 0] rfl (ihb1 _ (Option.some.inj h).symm)
        · refine r_tV (σ' := σ10) (kc := 1) (ks := 7) (Wd := 0) X (fun l D sz => w_X7_right l D sz h6) ho7.1 rfl q528 qs7 q526 q110 q529 hy_X7_right rfl dX7_step_36 rfl (Nat.le_of_ble_eq_true rfl) ⟨Nat.le_of_ble_eq_true rfl, Nat.le_of_ble_eq_true rfl⟩ ⟨Nat.le_of_ble_eq_true rfl, Nat.le_of_ble_eq_true rfl⟩ ?_
          have h := ex_some h ihe1
          cases h
          exact VT.widen (by show _ ≤ 2; omega) (by show _ ≤ 9; omega) <| r_out X hnoh hr
      refine r_iload_n X 3 dX7_step_11 rfl rfl ?_
      refine r_aload_n X 1 dX7_step_12 rfl rfl ?_
      obtain ⟨ho12, h⟩ := cO_some h
      refine r_getI (kf := 14) X ho12.1 rfl (by decide) rfl (Or.inr ⟨_, q239⟩) dX7_step_13 ?_
      refine r_icmp_ge (tgt := 46) X dX7_step_16 (by decide) h (fun c13 h => ?_) (fun c13 h => ?_)
      · refine r_aload_n X 0 dX7_step_19 rfl rfl ?_
        refine r_iload_n X 2 dX7_step_20 rfl rfl ?_
        refine r_aload_n X 1 dX7_step_21 rfl rfl ?_
        refine r_getA (kf := 2) X ho12.1 rfl (by decide) (by decide) (Or.inr ⟨_, q209⟩) dX7_step_22 ?_
        refine r_iload_n X 3 dX7_step_25 rfl rfl ?_
        refine r_iald X ho12.1 (ho12.2 2 (by decide)) rfl rfl rfl (by decide) dX7_step_26 h (fun h => ?_)
        refine r_iload_n X 2 dX7_step_27 rfl rfl ?_
        refine r_icmp_eq (tgt := 35) X dX7_step_28 (by decide) h (fun c14 h => ?_) (fun c14 h => ?_)
        · refine r_iconst X dX7_step_35 ?_
          exact V.sub [0, 1, 3] rfl (J36 (v3_1) (0) (v2_1) (a0) (σ_1) h)
        · refine r_iconst X dX7_step_31 ?_
          refine r_goto (tgt := 36) X dX7_step_32 (by decide) ?_
          exact V.sub [0, 1, 3] rfl (J36 (v3_1) (1) (v2_1) (a0) (σ_1) h)
      · have h := ex_some h ihe1
        refine r_aload_n X 0 dX7_step_46 rfl rfl ?_
        refine r_bipush X dX7_step_47 (by decide) ?_
        obtain ⟨ho16, h⟩ := cO_some h
        rcases bT1_some h with ⟨σ17, h15, h⟩ | ⟨xc18, σ19, h15, h⟩
        · refine r_cV (σ' := σ17) (kc := 0) (ks := 0) (Wd := 0) X (fun l D sz => w_X7_takes l D sz h15) ho16.1 rfl q532 qs8 q530 q110 q533 hy_X7_takes rfl dX7_step_49 rfl rfl (Nat.le_of_ble_eq_true rfl) ⟨Nat.le_of_ble_eq_true rfl, Nat.le_of_ble_eq_true rfl⟩ ⟨Nat.le_of_ble_eq_true rfl, Nat.le_of_ble_eq_true rfl⟩ ?_
          refine r_new (c := 9) (N := 2) X rfl rfl (by decide) q632 q633 q118 dX7_step_52 (by decide) (by decide) ?_
          refine r_let h (fun σ21 eσ21 h => ?_)
          have hk22 : cL σ21 (nX (σ17)) = some 9 := by rw [eσ21, cL_nO, if_pos rfl]
          have ho23 : oc σ21 (nX (σ17)) 9 := ⟨hk22, fun k hk => by cases hk⟩
          refine r_dup X dX7_step_55 rfl ?_
          refine r_iload_n X 2 dX7_step_56 rfl rfl ?_
          refine r_aload_n X 0 dX7_step_57 rfl rfl ?_
          refine r_iconst X dX7_step_58 ?_
          refine r_bipush X dX7_step_59 (by decide) ?_
          obtain ⟨ho25, h⟩ := cO_some h
          rcases bT2_some h with ⟨r29, σ26, h24, h⟩ | ⟨xc27, σ28, h24, h⟩
          · refine r_cV (σ' := σ26) (kc := 0) (ks := 0) (Wd := 3) X (fun l D sz => w_X7_number l D sz h24) ho25.1 rfl q438 qs1 q436 q110 q439 hy_X7_number rfl dX7_step_61 rfl rfl (Nat.le_of_ble_eq_true rfl) ⟨Nat.le_of_ble_eq_true rfl, Nat.le_of_ble_eq_true rfl⟩ ⟨Nat.le_of_ble_eq_true rfl, Nat.le_of_ble_eq_true rfl⟩ ?_
            obtain ⟨σ31, h30, h⟩ := bd_some h
            refine r_cI (Wd := 1) X (fun l D sz => w_X11_init l D sz h30) rfl rfl q635 q634 q118 q636 hy_X11_init rfl dX7_step_64 rfl rfl (Nat.le_of_ble_eq_true rfl) ⟨Nat.le_of_ble_eq_true rfl, Nat.le_of_ble_eq_true rfl⟩ ⟨Nat.le_of_ble_eq_true rfl, Nat.le_of_ble_eq_true rfl⟩ ?_
            cases h
            exact r_aret (q := some _) X hr dX7_step_67
          · refine r_tV (σ' := σ28) (kc := 1) (ks := 7) (Wd := 3) X (fun l D sz => w_X7_number l D sz h24) ho25.1 rfl q438 qs1 q436 q110 q439 hy_X7_number rfl dX7_step_61 rfl (Nat.le_of_ble_eq_true rfl) ⟨Nat.le_of_ble_eq_true rfl, Nat.le_of_ble_eq_true rfl⟩ ⟨Nat.le_of_ble_eq_true rfl, Nat.le_of_ble_eq_true rfl⟩ ?_
            cases h
            exact r_out X hnoh hr
        · refine r_tV (σ' := σ19) (kc := 1) (ks := 7) (Wd := 0) X (fun l D sz => w_X7_takes l D sz h15) ho16.1 rfl q532 qs8 q530 q110 q533 hy_X7_takes rfl dX7_step_49 rfl (Nat.le_of_ble_eq_true rfl) ⟨Nat.le_of_ble_eq_true rfl, Nat.le_of_ble_eq_true rfl⟩ ⟨Nat.le_of_ble_eq_true rfl, Nat.le_of_ble_eq_true rfl⟩ ?_
          cases h
          exact VT.widen (by show _ ≤ 2; omega) (by show _ ≤ 9; omega) <| r_out X hnoh hr
    exact V.sub [2, 3, 1, 0] rfl (L11 (r5, 0, σ2) h)
  · refine r_tV (σ' := σ4) (kc := 1) (ks := 7) (Wd := 0) X (fun l D sz => w_X7_number l D sz h1) ho0.1 rfl q438 qs1 q436 q110 q439 hy_X7_number rfl dX7_step_5 rfl (Nat.le_of_ble_eq_true rfl) ⟨Nat.le_of_ble_eq_true rfl, Nat.le_of_ble_eq_true rfl⟩ ⟨Nat.le_of_ble_eq_true rfl, Nat.le_of_ble_eq_true rfl⟩ ?_
    cases h
    exact VT.widen (by show _ ≤ 2; omega) (by show _ ≤ 9; omega) <| r_out X hnoh hr
theorem hy_X7_alike : yX7_alike.cls ≠ "java/lang/invoke/MethodHandle" ∧ yX7_alike.cls ≠ "java/lang/invoke/VarHandle" ∧ (parseMethodDescriptor yX7_alike.desc).map (fun d => d.parameters.length) = some 0 := by decide +kernel
set_option maxHeartbeats 4000000 in
theorem w_X7_alike (l : Launch) (D : DD) (sz : Nat) {σ : St} {a0 : Nat} {w : (Nat × St) ⊕ (Nat × St)} (h : f_X7_alike σ a0 = some w) : Mt l yX7_alike cX7_alike 3 (some (FieldType.object "DayBoy$Item")) ({ frames := 7, cells := 2, slots := 10, locals := 109 } : Room) D sz σ [.ref a0] (Sum.elim (fun q => Outcome.returned (some (.ref q.1))) (fun q => Outcome.threw q.1) w) (Sum.elim (fun q => q.2) (fun q => q.2) w) (Sum.elim (fun _ => 1) (fun _ => 2) w) (Sum.elim (fun _ => 3) (fun _ => 10) w) := by
  refine Mt.of (by decide +kernel) (Nat.le_of_ble_eq_true rfl) ?_
  intro Γ X hr hnl hini hnoh
  have X : Cx Γ cX7_alike "DayBoy$Reader" _ := X
  have hL : ∀ i, i < 3 → i < nLc Γ := fun i q => by rw [hnl]; exact q
  show V Γ σ 0 0 0 [(0, .ref (a0))] []
  unfold f_X7_alike at h
  obtain ⟨ho0, h⟩ := cO_some h
  have J34 : ∀ (v1_j34 : Int) (t0_j34 : Int) (t1_j34 : Int) (t2_j34 : Nat) (σ_j34 : St), f_X7_alike_j34 (a0) v1_j34 t0_j34 t1_j34 t2_j34 σ_j34 = some w → V Γ σ_j34 0 0 34 [(0, .ref (a0)), (1, iv (v1_j34))] [iv (t0_j34), iv (t1_j34), .ref (t2_j34)] := by
    intro v1_j34 t0_j34 t1_j34 t2_j34 σ_j34 h
    unfold f_X7_alike_j34 at h
    obtain ⟨ho2, h⟩ := cO_some h
    rcases bT2_some h with ⟨r6, σ3, h1, h⟩ | ⟨xc4, σ5, h1, h⟩
    · refine r_cV (σ' := σ3) (kc := 0) (ks := 0) (Wd := 0) X (fun l D sz => w_X7_right l D sz h1) ho2.1 rfl q528 qs7 q526 q110 q529 hy_X7_right rfl dX7_alike_34 rfl rfl (Nat.le_of_ble_eq_true rfl) ⟨Nat.le_of_ble_eq_true rfl, Nat.le_of_ble_eq_true rfl⟩ ⟨Nat.le_of_ble_eq_true rfl, Nat.le_of_ble_eq_true rfl⟩ ?_
      refine r_istore_n X dX7_alike_37 rfl (hL 2 (by decide)) (lv' := [(2, iv (r6)), (0, .ref (a0)), (1, iv (v1_j34))]) rfl ?_
      refine r_aload_n X 1 dX7_alike_38 rfl rfl ?_
      refine r_bipush X dX7_alike_39 (by decide) ?_
      obtain ⟨ho8, h⟩ := cO_some h
      rcases bT1_some h with ⟨σ9, h7, h⟩ | ⟨xc10, σ11, h7, h⟩
      · refine r_cV (σ' := σ9) (kc := 0) (ks := 0) (Wd := 0) X (fun l D sz => w_X7_takes l D sz h7) ho8.1 rfl q532 qs8 q530 q110 q533 hy_X7_takes rfl dX7_alike_41 rfl rfl (Nat.le_of_ble_eq_true rfl) ⟨Nat.le_of_ble_eq_true rfl, Nat.le_of_ble_eq_true rfl⟩ ⟨Nat.le_of_ble_eq_true rfl, Nat.le_of_ble_eq_true rfl⟩ ?_
        refine r_new (c := 10) (N := 3) X rfl rfl (by decide) q649 q650 q119 dX7_alike_44 (by decide) (by decide) ?_
        refine r_let h (fun σ13 eσ13 h => ?_)
        have hk14 : cL σ13 (nX (σ9)) = some 10 := by rw [eσ13, cL_nO, if_pos rfl]
        have ho15 : oc σ13 (nX (σ9)) 10 := ⟨hk14, fun k hk => by cases hk⟩
        refine r_dup X dX7_alike_47 rfl ?_
        refine r_iload_n X 2 dX7_alike_48 rfl rfl ?_
        refine r_iload_n X 0 dX7_alike_49 rfl rfl ?_
        refine r_aload_n X 1 dX7_alike_50 rfl rfl ?_
        refine r_iconst X dX7_alike_51 ?_
        refine r_bipush X dX7_alike_52 (by decide) ?_
        obtain ⟨ho17, h⟩ := cO_some h
        rcases bT2_some h with ⟨r21, σ18, h16, h⟩ | ⟨xc19, σ20, h16, h⟩
        · refine r_cV (σ' := σ18) (kc := 0) (ks := 0) (Wd := 4) X (fun l D sz => w_X7_number l D sz h16) ho17.1 rfl q438 qs1 q436 q110 q439 hy_X7_number rfl dX7_alike_54 rfl rfl (Nat.le_of_ble_eq_true rfl) ⟨Nat.le_of_ble_eq_true rfl, Nat.le_of_ble_eq_true rfl⟩ ⟨Nat.le_of_ble_eq_true rfl, Nat.le_of_ble_eq_true rfl⟩ ?_
          obtain ⟨σ23, h22, h⟩ := bd_some h
          refine r_cI (Wd := 1) X (fun l D sz => w_X12_init l D sz h22) rfl rfl q652 q651 q119 q653 hy_X12_init rfl dX7_alike_57 rfl rfl (Nat.le_of_ble_eq_true rfl) ⟨Nat.le_of_ble_eq_true rfl, Nat.le_of_ble_eq_true rfl⟩ ⟨Nat.le_of_ble_eq_true rfl, Nat.le_of_ble_eq_true rfl⟩ ?_
          cases h
          exact r_aret (q := some _) X hr dX7_alike_60
        · refine r_tV (σ' := σ20) (kc := 1) (ks := 7) (Wd := 4) X (fun l D sz => w_X7_number l D sz h16) ho17.1 rfl q438 qs1 q436 q110 q439 hy_X7_number rfl dX7_alike_54 rfl (Nat.le_of_ble_eq_true rfl) ⟨Nat.le_of_ble_eq_true rfl, Nat.le_of_ble_eq_true rfl⟩ ⟨Nat.le_of_ble_eq_true rfl, Nat.le_of_ble_eq_true rfl⟩ ?_
          cases h
          exact r_out X hnoh hr
      · refine r_tV (σ' := σ11) (kc := 1) (ks := 7) (Wd := 0) X (fun l D sz => w_X7_takes l D sz h7) ho8.1 rfl q532 qs8 q530 q110 q533 hy_X7_takes rfl dX7_alike_41 rfl (Nat.le_of_ble_eq_true rfl) ⟨Nat.le_of_ble_eq_true rfl, Nat.le_of_ble_eq_true rfl⟩ ⟨Nat.le_of_ble_eq_true rfl, Nat.le_of_ble_eq_true rfl⟩ ?_
        cases h
        exact VT.widen (by show _ ≤ 2; omega) (by show _ ≤ 10; omega) <| r_out X hnoh hr
    · refine r_tV (σ' := σ5) (kc := 1) (ks := 7) (Wd := 0) X (fun l D sz => w_X7_right l D sz h1) ho2.1 rfl q528 qs7 q526 q110 q529 hy_X7_right rfl dX7_alike_34 rfl (Nat.le_of_ble_eq_true rfl) ⟨Nat.le_of_ble_eq_true rfl, Nat.le_of_ble_eq_true rfl⟩ ⟨Nat.le_of_ble_eq_true rfl, Nat.le_of_ble_eq_true rfl⟩ ?_
      cases h
      exact VT.widen (by show _ ≤ 2; omega) (by show _ ≤ 10; omega) <| r_out X hnoh hr
  refine r_aload_n X 0 dX7_alike_0 rfl rfl ?_
  refine r_iconst X dX7_alike_1 ?_
  refine r_bipush X dX7_alike_2 (by decide) ?_
  rcases bT2_some h with ⟨r28, σ25, h24, h⟩ | ⟨xc26, σ27, h24, h⟩
  · refine r_cV (σ' := σ25) (kc := 0) (ks := 0) (Wd := 0) X (fun l D sz => w_X7_number l D sz h24) ho0.1 rfl q438 qs1 q436 q110 q439 hy_X7_number rfl dX7_alike_4 rfl rfl (Nat.le_of_ble_eq_true rfl) ⟨Nat.le_of_ble_eq_true rfl, Nat.le_of_ble_eq_true rfl⟩ ⟨Nat.le_of_ble_eq_true rfl, Nat.le_of_ble_eq_true rfl⟩ ?_
    refine r_istore_n X dX7_alike_7 rfl (hL 1 (by decide)) (lv' := [(1, iv (r28)), (0, .ref (a0))]) rfl ?_
    refine r_aload_n X 1 dX7_alike_8 rfl rfl ?_
    refine r_bipush X dX7_alike_9 (by decide) ?_
    obtain ⟨ho30, h⟩ := cO_some h
    rcases bT1_some h with ⟨σ31, h29, h⟩ | ⟨xc32, σ33, h29, h⟩
    · refine r_cV (σ' := σ31) (kc := 0) (ks := 0) (Wd := 0) X (fun l D sz => w_X7_takes l D sz h29) ho30.1 rfl q532 qs8 q530 q110 q533 hy_X7_takes rfl dX7_alike_11 rfl rfl (Nat.le_of_ble_eq_true rfl) ⟨Nat.le_of_ble_eq_true rfl, Nat.le_of_ble_eq_true rfl⟩ ⟨Nat.le_of_ble_eq_true rfl, Nat.le_of_ble_eq_true rfl⟩ ?_
      refine r_aload_n X 1 dX7_alike_14 rfl rfl ?_
      refine r_iconst X dX7_alike_15 ?_
      refine r_bipush X dX7_alike_16 (by decide) ?_
      obtain ⟨ho36, h⟩ := cO_some h
      rcases bT2_some h with ⟨r40, σ37, h35, h⟩ | ⟨xc38, σ39, h35, h⟩
      · refine r_cV (σ' := σ37) (kc := 0) (ks := 0) (Wd := 0) X (fun l D sz => w_X7_number l D sz h35) ho36.1 rfl q438 qs1 q436 q110 q439 hy_X7_number rfl dX7_alike_18 rfl rfl (Nat.le_of_ble_eq_true rfl) ⟨Nat.le_of_ble_eq_true rfl, Nat.le_of_ble_eq_true rfl⟩ ⟨Nat.le_of_ble_eq_true rfl, Nat.le_of_ble_eq_true rfl⟩ ?_
        refine r_istore_n X dX7_alike_21 rfl (hL 2 (by decide)) (lv' := [(2, iv (r40)), (1, iv (r28)), (0, .ref (a0))]) rfl ?_
        refine r_aload_n X 2 dX7_alike_22 rfl rfl ?_
        refine r_iload_n X 0 dX7_alike_23 rfl rfl ?_
        refine r_iload_n X 0 dX7_alike_24 rfl rfl ?_
        refine r_iload_n X 1 dX7_alike_25 rfl rfl ?_
        refine r_icmp_eq (tgt := 33) X dX7_alike_26 (by decide) h (fun c41 h => ?_) (fun c41 h => ?_)
        · refine r_iconst X dX7_alike_33 ?_
          exact V.sub [2, 1] rfl (J34 (r28) (0) (r40) (a0) (σ37) h)
        · refine r_iconst X dX7_alike_29 ?_
          refine r_goto (tgt := 34) X dX7_alike_30 (by decide) ?_
          exact V.sub [2, 1] rfl (J34 (r28) (1) (r40) (a0) (σ37) h)
      · refine r_tV (σ' := σ39) (kc := 1) (ks := 7) (Wd := 0) X (fun l D sz => w_X7_number l D sz h35) ho36.1 rfl q438 qs1 q436 q110 q439 hy_X7_number rfl dX7_alike_18 rfl (Nat.le_of_ble_eq_true rfl) ⟨Nat.le_of_ble_eq_true rfl, Nat.le_of_ble_eq_true rfl⟩ ⟨Nat.le_of_ble_eq_true rfl, Nat.le_of_ble_eq_true rfl⟩ ?_
        cases h
        exact VT.widen (by show _ ≤ 2; omega) (by show _ ≤ 10; omega) <| r_out X hnoh hr
    · refine r_tV (σ' := σ33) (kc := 1) (ks := 7) (Wd := 0) X (fun l D sz => w_X7_takes l D sz h29) ho30.1 rfl q532 qs8 q530 q110 q533 hy_X7_takes rfl dX7_alike_11 rfl (Nat.le_of_ble_eq_true rfl) ⟨Nat.le_of_ble_eq_true rfl, Nat.le_of_ble_eq_true rfl⟩ ⟨Nat.le_of_ble_eq_true rfl, Nat.le_of_ble_eq_true rfl⟩ ?_
      cases h
      exact VT.widen (by show _ ≤ 2; omega) (by show _ ≤ 10; omega) <| r_out X hnoh hr
  · refine r_tV (σ' := σ27) (kc := 1) (ks := 7) (Wd := 0) X (fun l D sz => w_X7_number l D sz h24) ho0.1 rfl q438 qs1 q436 q110 q439 hy_X7_number rfl dX7_alike_4 rfl (Nat.le_of_ble_eq_true rfl) ⟨Nat.le_of_ble_eq_true rfl, Nat.le_of_ble_eq_true rfl⟩ ⟨Nat.le_of_ble_eq_true rfl, Nat.le_of_ble_eq_true rfl⟩ ?_
    cases h
    exact VT.widen (by show _ ≤ 2; omega) (by show _ ≤ 10; omega) <| r_out X hnoh hr
theorem hy_X7_own : yX7_own.cls ≠ "java/lang/invoke/MethodHandle" ∧ yX7_own.cls ≠ "java/lang/invoke/VarHandle" ∧ (parseMethodDescriptor yX7_own.desc).map (fun d => d.parameters.length) = some 1 := by decide +kernel
set_option maxHeartbeats 4000000 in
theorem w_X7_own (l : Launch) (D : DD) (sz : Nat) {σ : St} {a0 : Nat} {p1 : Nat} {w : (Nat × St) ⊕ (Nat × St)} (h : f_X7_own σ a0 p1 = some w) : Mt l yX7_own cX7_own 3 (some (FieldType.object "DayBoy$Item")) ({ frames := 7, cells := 2, slots := 8, locals := 105 } : Room) D sz σ [.ref a0, .ref (p1)] (Sum.elim (fun q => Outcome.returned (some (.ref q.1))) (fun q => Outcome.threw q.1) w) (Sum.elim (fun q => q.2) (fun q => q.2) w) (Sum.elim (fun _ => 1) (fun _ => 2) w) (Sum.elim (fun _ => 1) (fun _ => 8) w) := by
  refine Mt.of (by decide +kernel) (Nat.le_of_ble_eq_true rfl) ?_
  intro Γ X hr hnl hini hnoh
  have X : Cx Γ cX7_own "DayBoy$Reader" _ := X
  have hL : ∀ i, i < 3 → i < nLc Γ := fun i q => by rw [hnl]; exact q
  show V Γ σ 0 0 0 [(0, .ref (a0)), (1, .ref (p1))] []
  unfold f_X7_own at h
  obtain ⟨ho0, h⟩ := cO_some h
  have J28 : ∀ (t0_j28 : Int) (t1_j28 : Int) (t2_j28 : Nat) (t3_j28 : Nat) (t4_j28 : Nat) (σ_j28 : St), f_X7_own_j28  t0_j28 t1_j28 t2_j28 t3_j28 t4_j28 σ_j28 = some w → V Γ σ_j28 1 1 28 [] [iv (t0_j28), iv (t1_j28), .ref (t2_j28), .ref (t3_j28), .ref (t4_j28)] := by
    intro t0_j28 t1_j28 t2_j28 t3_j28 t4_j28 σ_j28 h
    unfold f_X7_own_j28 at h
    obtain ⟨ho2, h⟩ := cO_some h
    rcases bT2_some h with ⟨r6, σ3, h1, h⟩ | ⟨xc4, σ5, h1, h⟩
    · refine r_cV (σ' := σ3) (kc := 0) (ks := 0) (Wd := 2) X (fun l D sz => w_X7_right l D sz h1) ho2.1 rfl q528 qs7 q526 q110 q529 hy_X7_right rfl dX7_own_28 rfl rfl (Nat.le_of_ble_eq_true rfl) ⟨Nat.le_of_ble_eq_true rfl, Nat.le_of_ble_eq_true rfl⟩ ⟨Nat.le_of_ble_eq_true rfl, Nat.le_of_ble_eq_true rfl⟩ ?_
      obtain ⟨σ8, h7, h⟩ := bd_some h
      refine r_cI (Wd := 1) X (fun l D sz => w_X13_init l D sz h7) rfl rfl q672 q671 q120 q673 hy_X13_init rfl dX7_own_31 rfl rfl (Nat.le_of_ble_eq_true rfl) ⟨Nat.le_of_ble_eq_true rfl, Nat.le_of_ble_eq_true rfl⟩ ⟨Nat.le_of_ble_eq_true rfl, Nat.le_of_ble_eq_true rfl⟩ ?_
      cases h
      exact r_aret (q := some _) X hr dX7_own_34
    · refine r_tV (σ' := σ5) (kc := 1) (ks := 7) (Wd := 2) X (fun l D sz => w_X7_right l D sz h1) ho2.1 rfl q528 qs7 q526 q110 q529 hy_X7_right rfl dX7_own_28 rfl (Nat.le_of_ble_eq_true rfl) ⟨Nat.le_of_ble_eq_true rfl, Nat.le_of_ble_eq_true rfl⟩ ⟨Nat.le_of_ble_eq_true rfl, Nat.le_of_ble_eq_true rfl⟩ ?_
      cases h
      exact r_out X hnoh hr
  refine r_aload_n X 0 dX7_own_0 rfl rfl ?_
  refine r_iconst X dX7_own_1 ?_
  refine r_bipush X dX7_own_2 (by decide) ?_
  rcases bT2_some h with ⟨r13, σ10, h9, h⟩ | ⟨xc11, σ12, h9, h⟩
  · refine r_cV (σ' := σ10) (kc := 0) (ks := 0) (Wd := 0) X (fun l D sz => w_X7_number l D sz h9) ho0.1 rfl q438 qs1 q436 q110 q439 hy_X7_number rfl dX7_own_4 rfl rfl (Nat.le_of_ble_eq_true rfl) ⟨Nat.le_of_ble_eq_true rfl, Nat.le_of_ble_eq_true rfl⟩ ⟨Nat.le_of_ble_eq_true rfl, Nat.le_of_ble_eq_true rfl⟩ ?_
    refine r_istore_n X dX7_own_7 rfl (hL 2 (by decide)) (lv' := [(2, iv (r13)), (0, .ref (a0)), (1, .ref (p1))]) rfl ?_
    refine r_new (c := 11) (N := 1) X rfl rfl (by decide) q669 q670 q120 dX7_own_8 (by decide) (by decide) ?_
    refine r_let h (fun σ14 eσ14 h => ?_)
    have hk15 : cL σ14 (nX (σ10)) = some 11 := by rw [eσ14, cL_nO, if_pos rfl]
    have ho16 : oc σ14 (nX (σ10)) 11 := ⟨hk15, fun k hk => by cases hk⟩
    refine r_dup X dX7_own_11 rfl ?_
    refine r_aload_n X 1 dX7_own_12 rfl rfl ?_
    refine r_iload_n X 0 dX7_own_13 rfl rfl ?_
    refine r_aload_n X 2 dX7_own_14 rfl rfl ?_
    obtain ⟨ho17, h⟩ := cO_some h
    refine r_getA (kf := 8) X ho17.1 rfl (by decide) (by decide) (Or.inr ⟨_, q227⟩) dX7_own_15 ?_
    refine r_iload_n X 0 dX7_own_18 rfl rfl ?_
    refine r_zald X ho17.1 (ho17.2 8 (by decide)) rfl rfl rfl (by decide) dX7_own_19 h (fun h => ?_)
    refine r_if_ne (tgt := 27) X dX7_own_20 (by decide) h (fun c18 h => ?_) (fun c18 h => ?_)
    · refine r_iconst X dX7_own_23 ?_
      refine r_goto (tgt := 28) X dX7_own_24 (by decide) ?_
      exact V.sub [] rfl (J28 (1) (r13) (a0) (nX (σ10)) (nX (σ10)) (σ14) h)
    · refine r_iconst X dX7_own_27 ?_
      exact V.sub [] rfl (J28 (0) (r13) (a0) (nX (σ10)) (nX (σ10)) (σ14) h)
  · refine r_tV (σ' := σ12) (kc := 1) (ks := 7) (Wd := 0) X (fun l D sz => w_X7_number l D sz h9) ho0.1 rfl q438 qs1 q436 q110 q439 hy_X7_number rfl dX7_own_4 rfl (Nat.le_of_ble_eq_true rfl) ⟨Nat.le_of_ble_eq_true rfl, Nat.le_of_ble_eq_true rfl⟩ ⟨Nat.le_of_ble_eq_true rfl, Nat.le_of_ble_eq_true rfl⟩ ?_
    cases h
    exact VT.widen (by show _ ≤ 2; omega) (by show _ ≤ 8; omega) <| r_out X hnoh hr
theorem hy_X7_item : yX7_item.cls ≠ "java/lang/invoke/MethodHandle" ∧ yX7_item.cls ≠ "java/lang/invoke/VarHandle" ∧ (parseMethodDescriptor yX7_item.desc).map (fun d => d.parameters.length) = some 1 := by decide +kernel
set_option maxHeartbeats 4000000 in
theorem w_X7_item (l : Launch) (D : DD) (sz : Nat) {σ : St} {a0 : Nat} {p1 : Nat} {w : (Nat × St) ⊕ (Nat × St)} (h : f_X7_item σ a0 p1 = some w) : Mt l yX7_item cX7_item 5 (some (FieldType.object "DayBoy$Item")) ({ frames := 8, cells := 2, slots := 10, locals := 123 } : Room) D sz σ [.ref a0, .ref (p1)] (Sum.elim (fun q => Outcome.returned (some (.ref q.1))) (fun q => Outcome.threw q.1) w) (Sum.elim (fun q => q.2) (fun q => q.2) w) (Sum.elim (fun _ => 1) (fun _ => 2) w) (Sum.elim (fun _ => 3) (fun _ => 10) w) := by
  refine Mt.of (by decide +kernel) (Nat.le_of_ble_eq_true rfl) ?_
  intro Γ X hr hnl hini hnoh
  have X : Cx Γ cX7_item "DayBoy$Reader" _ := X
  have hL : ∀ i, i < 5 → i < nLc Γ := fun i q => by rw [hnl]; exact q
  show V Γ σ 0 0 0 [(0, .ref (a0)), (1, .ref (p1))] []
  unfold f_X7_item at h
  obtain ⟨ho0, h⟩ := cO_some h
  have J143 : ∀ (v3_j143 : Int) (t0_j143 : Int) (σ_j143 : St), f_X7_item_j143 (a0) (p1) v3_j143 t0_j143 σ_j143 = some w → V Γ σ_j143 0 0 143 [(0, .ref (a0)), (1, .ref (p1)), (3, iv (v3_j143))] [iv (t0_j143)] := by
    intro v3_j143 t0_j143 σ_j143 h
    unfold f_X7_item_j143 at h
    refine r_istore X dX7_item_143 (hL 4 (by decide)) (lv' := [(4, iv (t0_j143)), (0, .ref (a0)), (1, .ref (p1)), (3, iv (v3_j143))]) rfl ?_
    refine r_aload_n X 1 dX7_item_145 rfl rfl ?_
    refine r_iload X 0 dX7_item_146 rfl ?_
    obtain ⟨ho2, h⟩ := cO_some h
    rcases bT2_some h with ⟨r6, σ3, h1, h⟩ | ⟨xc4, σ5, h1, h⟩
    · refine r_cV (σ' := σ3) (kc := 0) (ks := 0) (Wd := 0) X (fun l D sz => w_X7_take l D sz h1) ho2.1 rfl q454 qs5 q452 q110 q455 hy_X7_take rfl dX7_item_148 rfl rfl (Nat.le_of_ble_eq_true rfl) ⟨Nat.le_of_ble_eq_true rfl, Nat.le_of_ble_eq_true rfl⟩ ⟨Nat.le_of_ble_eq_true rfl, Nat.le_of_ble_eq_true rfl⟩ ?_
      refine r_istore_n X dX7_item_151 rfl (hL 2 (by decide)) (lv' := [(2, iv (r6)), (4, iv (t0_j143)), (0, .ref (a0)), (1, .ref (p1)), (3, iv (v3_j143))]) rfl ?_
      refine r_iload_n X 0 dX7_item_152 rfl rfl ?_
      obtain ⟨hrc44, -, hA, h⟩ := cEq_some h
      by_cases c44 : (r6) = 107
      · have h := hA c44
        refine r_lookup (off := 43) (tgt := 196) X dX7_item_153 rfl hrc44 (by rw [c44]; rfl) (by decide) ?_
        refine r_aload_n X 2 dX7_item_196 rfl rfl ?_
        obtain ⟨ho8, h⟩ := cO_some h
        rcases bT2_some h with ⟨r12, σ9, h7, h⟩ | ⟨xc10, σ11, h7, h⟩
        · refine r_cV (σ' := σ9) (kc := 1) (ks := 2) (Wd := 0) X (fun l D sz => w_X7_range l D sz h7) ho8.1 rfl q610 qs15 q608 q110 q611 hy_X7_range rfl dX7_item_197 rfl rfl (Nat.le_of_ble_eq_true rfl) ⟨Nat.le_of_ble_eq_true rfl, Nat.le_of_ble_eq_true rfl⟩ ⟨Nat.le_of_ble_eq_true rfl, Nat.le_of_ble_eq_true rfl⟩ ?_
          cases h
          exact V.widen (Nat.le_of_ble_eq_true rfl) (Nat.le_of_ble_eq_true rfl) <| r_aret (q := some _) X hr dX7_item_200
        · refine r_tV (σ' := σ11) (kc := 2) (ks := 9) (Wd := 0) X (fun l D sz => w_X7_range l D sz h7) ho8.1 rfl q610 qs15 q608 q110 q611 hy_X7_range rfl dX7_item_197 rfl (Nat.le_of_ble_eq_true rfl) ⟨Nat.le_of_ble_eq_true rfl, Nat.le_of_ble_eq_true rfl⟩ ⟨Nat.le_of_ble_eq_true rfl, Nat.le_of_ble_eq_true rfl⟩ ?_
          cases h
          exact VT.widen (by show _ ≤ 2; omega) (by show _ ≤ 10; omega) <| r_out X hnoh hr
      have h := h c44
      obtain ⟨hrc45, -, hA, h⟩ := cEq_some h
      by_cases c45 : (r6) = 109
      · have h := hA c45
        refine r_lookup (off := 54) (tgt := 207) X dX7_item_153 rfl hrc45 (by rw [c45]; rfl) (by decide) ?_
        refine r_aload_n X 2 dX7_item_207 rfl rfl ?_
        obtain ⟨ho14, h⟩ := cO_some h
        rcases bT2_some h with ⟨r18, σ15, h13, h⟩ | ⟨xc16, σ17, h13, h⟩
        · refine r_cV (σ' := σ15) (kc := 1) (ks := 3) (Wd := 0) X (fun l D sz => w_X7_alike l D sz h13) ho14.1 rfl q647 qs17 q645 q110 q648 hy_X7_alike rfl dX7_item_208 rfl rfl (Nat.le_of_ble_eq_true rfl) ⟨Nat.le_of_ble_eq_true rfl, Nat.le_of_ble_eq_true rfl⟩ ⟨Nat.le_of_ble_eq_true rfl, Nat.le_of_ble_eq_true rfl⟩ ?_
          cases h
          exact r_aret (q := some _) X hr dX7_item_211
        · refine r_tV (σ' := σ17) (kc := 2) (ks := 10) (Wd := 0) X (fun l D sz => w_X7_alike l D sz h13) ho14.1 rfl q647 qs17 q645 q110 q648 hy_X7_alike rfl dX7_item_208 rfl (Nat.le_of_ble_eq_true rfl) ⟨Nat.le_of_ble_eq_true rfl, Nat.le_of_ble_eq_true rfl⟩ ⟨Nat.le_of_ble_eq_true rfl, Nat.le_of_ble_eq_true rfl⟩ ?_
          cases h
          exact r_out X hnoh hr
      have h := h c45
      obtain ⟨hrc46, -, hA, h⟩ := cEq_some h
      by_cases c46 : (r6) = 111
      · have h := hA c46
        refine r_lookup (off := 59) (tgt := 212) X dX7_item_153 rfl hrc46 (by rw [c46]; rfl) (by decide) ?_
        refine r_aload_n X 2 dX7_item_212 rfl rfl ?_
        refine r_aload_n X 3 dX7_item_213 rfl rfl ?_
        obtain ⟨ho20, h⟩ := cO_some h
        rcases bT2_some h with ⟨r24, σ21, h19, h⟩ | ⟨xc22, σ23, h19, h⟩
        · refine r_cV (σ' := σ21) (kc := 1) (ks := 1) (Wd := 0) X (fun l D sz => w_X7_own l D sz h19) ho20.1 rfl q667 qs18 q665 q110 q668 hy_X7_own rfl dX7_item_214 rfl rfl (Nat.le_of_ble_eq_true rfl) ⟨Nat.le_of_ble_eq_true rfl, Nat.le_of_ble_eq_true rfl⟩ ⟨Nat.le_of_ble_eq_true rfl, Nat.le_of_ble_eq_true rfl⟩ ?_
          cases h
          exact V.widen (Nat.le_of_ble_eq_true rfl) (Nat.le_of_ble_eq_true rfl) <| r_aret (q := some _) X hr dX7_item_217
        · refine r_tV (σ' := σ23) (kc := 2) (ks := 8) (Wd := 0) X (fun l D sz => w_X7_own l D sz h19) ho20.1 rfl q667 qs18 q665 q110 q668 hy_X7_own rfl dX7_item_214 rfl (Nat.le_of_ble_eq_true rfl) ⟨Nat.le_of_ble_eq_true rfl, Nat.le_of_ble_eq_true rfl⟩ ⟨Nat.le_of_ble_eq_true rfl, Nat.le_of_ble_eq_true rfl⟩ ?_
          cases h
          exact VT.widen (by show _ ≤ 2; omega) (by show _ ≤ 10; omega) <| r_out X hnoh hr
      have h := h c46
      obtain ⟨hrc47, -, hA, h⟩ := cEq_some h
      by_cases c47 : (r6) = 121
      · have h := hA c47
        refine r_lookup (off := 48) (tgt := 201) X dX7_item_153 rfl hrc47 (by rw [c47]; rfl) (by decide) ?_
        refine r_aload_n X 2 dX7_item_201 rfl rfl ?_
        refine r_aload_n X 3 dX7_item_202 rfl rfl ?_
        obtain ⟨ho26, h⟩ := cO_some h
        rcases bT2_some h with ⟨r30, σ27, h25, h⟩ | ⟨xc28, σ29, h25, h⟩
        · refine r_cV (σ' := σ27) (kc := 1) (ks := 2) (Wd := 0) X (fun l D sz => w_X7_step l D sz h25) ho26.1 rfl q630 qs16 q628 q110 q631 hy_X7_step rfl dX7_item_203 rfl rfl (Nat.le_of_ble_eq_true rfl) ⟨Nat.le_of_ble_eq_true rfl, Nat.le_of_ble_eq_true rfl⟩ ⟨Nat.le_of_ble_eq_true rfl, Nat.le_of_ble_eq_true rfl⟩ ?_
          cases h
          exact V.widen (Nat.le_of_ble_eq_true rfl) (Nat.le_of_ble_eq_true rfl) <| r_aret (q := some _) X hr dX7_item_206
        · refine r_tV (σ' := σ29) (kc := 2) (ks := 9) (Wd := 0) X (fun l D sz => w_X7_step l D sz h25) ho26.1 rfl q630 qs16 q628 q110 q631 hy_X7_step rfl dX7_item_203 rfl (Nat.le_of_ble_eq_true rfl) ⟨Nat.le_of_ble_eq_true rfl, Nat.le_of_ble_eq_true rfl⟩ ⟨Nat.le_of_ble_eq_true rfl, Nat.le_of_ble_eq_true rfl⟩ ?_
          cases h
          exact VT.widen (by show _ ≤ 2; omega) (by show _ ≤ 10; omega) <| r_out X hnoh hr
      have h := h c47
      refine r_lookup (off := 65) (tgt := 218) X dX7_item_153 rfl hrc44 (by show Op.lookupswitch.offset [(107, 43), (109, 54), (111, 59), (121, 48)] _ _ = _; rw [Op.lookupswitch.offset_cons, if_neg (by omega), Op.lookupswitch.offset_cons, if_neg (by omega), Op.lookupswitch.offset_cons, if_neg (by omega), Op.lookupswitch.offset_cons, if_neg (by omega), Op.lookupswitch.offset_nil]) (by decide) ?_
      refine r_aload_n X 2 dX7_item_218 rfl rfl ?_
      refine r_dup X dX7_item_219 rfl ?_
      obtain ⟨ho31, h⟩ := cO_some h
      refine r_getI (kf := 1) X ho31.1 rfl (by decide) rfl (Or.inl q423) dX7_item_220 ?_
      refine r_iconst X dX7_item_223 ?_
      refine r_iload_n X 4 dX7_item_224 rfl rfl ?_
      refine r_ishl X dX7_item_225 ?_
      refine r_ior X dX7_item_226 ?_
      refine r_putI (kf := 1) X ho31.1 rfl (by decide) rfl rfl (Or.inl q423) dX7_item_227 rfl ?_
      refine r_let h (fun σ32 eσ32 h => ?_)
      refine r_new (c := 12) (N := 2) X rfl rfl (by decide) q679 q680 q121 dX7_item_230 (by decide) (by decide) ?_
      refine r_let h (fun σ33 eσ33 h => ?_)
      have hk34 : cL σ33 (nX (σ32)) = some 12 := by rw [eσ33, cL_nO, if_pos rfl]
      have ho35 : oc σ33 (nX (σ32)) 12 := ⟨hk34, fun k hk => by cases hk⟩
      refine r_dup X dX7_item_233 rfl ?_
      refine r_iload_n X 4 dX7_item_234 rfl rfl ?_
      refine r_aload_n X 2 dX7_item_235 rfl rfl ?_
      refine r_iconst X dX7_item_236 ?_
      refine r_bipush X dX7_item_237 (by decide) ?_
      obtain ⟨ho37, h⟩ := cO_some h
      rcases bT2_some h with ⟨r41, σ38, h36, h⟩ | ⟨xc39, σ40, h36, h⟩
      · refine r_cV (σ' := σ38) (kc := 0) (ks := 0) (Wd := 3) X (fun l D sz => w_X7_number l D sz h36) ho37.1 rfl q438 qs1 q436 q110 q439 hy_X7_number rfl dX7_item_239 rfl rfl (Nat.le_of_ble_eq_true rfl) ⟨Nat.le_of_ble_eq_true rfl, Nat.le_of_ble_eq_true rfl⟩ ⟨Nat.le_of_ble_eq_true rfl, Nat.le_of_ble_eq_true rfl⟩ ?_
        obtain ⟨σ43, h42, h⟩ := bd_some h
        refine r_cI (Wd := 1) X (fun l D sz => w_X14_init l D sz h42) rfl rfl q682 q681 q121 q683 hy_X14_init rfl dX7_item_242 rfl rfl (Nat.le_of_ble_eq_true rfl) ⟨Nat.le_of_ble_eq_true rfl, Nat.le_of_ble_eq_true rfl⟩ ⟨Nat.le_of_ble_eq_true rfl, Nat.le_of_ble_eq_true rfl⟩ ?_
        cases h
        exact V.widen (Nat.le_of_ble_eq_true rfl) (Nat.le_of_ble_eq_true rfl) <| r_aret (q := some _) X hr dX7_item_245
      · refine r_tV (σ' := σ40) (kc := 1) (ks := 7) (Wd := 3) X (fun l D sz => w_X7_number l D sz h36) ho37.1 rfl q438 qs1 q436 q110 q439 hy_X7_number rfl dX7_item_239 rfl (Nat.le_of_ble_eq_true rfl) ⟨Nat.le_of_ble_eq_true rfl, Nat.le_of_ble_eq_true rfl⟩ ⟨Nat.le_of_ble_eq_true rfl, Nat.le_of_ble_eq_true rfl⟩ ?_
        cases h
        exact VT.widen (by show _ ≤ 2; omega) (by show _ ≤ 10; omega) <| r_out X hnoh hr
    · refine r_tV (σ' := σ5) (kc := 1) (ks := 7) (Wd := 0) X (fun l D sz => w_X7_take l D sz h1) ho2.1 rfl q454 qs5 q452 q110 q455 hy_X7_take rfl dX7_item_148 rfl (Nat.le_of_ble_eq_true rfl) ⟨Nat.le_of_ble_eq_true rfl, Nat.le_of_ble_eq_true rfl⟩ ⟨Nat.le_of_ble_eq_true rfl, Nat.le_of_ble_eq_true rfl⟩ ?_
      cases h
      exact VT.widen (by show _ ≤ 2; omega) (by show _ ≤ 10; omega) <| r_out X hnoh hr
  have J142 : ∀ (v3_j142 : Int) (σ_j142 : St), f_X7_item_j142 (a0) (p1) v3_j142 σ_j142 = some w → V Γ σ_j142 0 0 142 [(0, .ref (a0)), (1, .ref (p1)), (3, iv (v3_j142))] [] := by
    intro v3_j142 σ_j142 h
    unfold f_X7_item_j142 at h
    refine r_iconst X dX7_item_142 ?_
    exact V.sub [0, 1, 2] rfl (J143 (v3_j142) (0) (σ_j142) h)
  have J138 : ∀ (v3_j138 : Int) (σ_j138 : St), f_X7_item_j138 (a0) (p1) v3_j138 σ_j138 = some w → V Γ σ_j138 0 0 138 [(0, .ref (a0)), (1, .ref (p1)), (3, iv (v3_j138))] [] := by
    intro v3_j138 σ_j138 h
    unfold f_X7_item_j138 at h
    refine r_iconst X dX7_item_138 ?_
    refine r_goto (tgt := 143) X dX7_item_139 (by decide) ?_
    exact V.sub [0, 1, 2] rfl (J143 (v3_j138) (1) (σ_j138) h)
  have J46 : ∀ (v2_j46 : Int) (t0_j46 : Int) (σ_j46 : St), f_X7_item_j46 (a0) (p1) v2_j46 t0_j46 σ_j46 = some w → V Γ σ_j46 0 0 46 [(0, .ref (a0)), (1, .ref (p1)), (2, iv (v2_j46))] [iv (t0_j46)] := by
    intro v2_j46 t0_j46 σ_j46 h
    unfold f_X7_item_j46 at h
    refine r_istore_n X dX7_item_46 rfl (hL 3 (by decide)) (lv' := [(3, iv (t0_j46)), (0, .ref (a0)), (1, .ref (p1)), (2, iv (v2_j46))]) rfl ?_
    refine r_iload_n X 3 dX7_item_47 rfl rfl ?_
    refine r_bipush X dX7_item_48 (by decide) ?_
    refine r_icmp_ne (tgt := 70) X dX7_item_50 (by decide) h (fun c48 h => ?_) (fun c48 h => ?_)
    · refine r_aload_n X 2 dX7_item_53 rfl rfl ?_
      obtain ⟨ho49, h⟩ := cO_some h
      refine r_getI (kf := 13) X ho49.1 rfl (by decide) rfl (Or.inr ⟨_, q236⟩) dX7_item_54 ?_
      refine r_bipush X dX7_item_57 (by decide) ?_
      refine r_icmp_ge (tgt := 66) X dX7_item_59 (by decide) h (fun c50 h => ?_) (fun c50 h => ?_)
      · refine r_iconst X dX7_item_62 ?_
        refine r_goto (tgt := 143) X dX7_item_63 (by decide) ?_
        exact V.sub [1, 2, 0] rfl (J143 (t0_j46) (1) (σ_j46) h)
      · refine r_iconst X dX7_item_66 ?_
        refine r_goto (tgt := 143) X dX7_item_67 (by decide) ?_
        exact V.sub [1, 2, 0] rfl (J143 (t0_j46) (0) (σ_j46) h)
    · refine r_iload_n X 3 dX7_item_70 rfl rfl ?_
      refine r_bipush X dX7_item_71 (by decide) ?_
      refine r_icmp_ne (tgt := 93) X dX7_item_73 (by decide) h (fun c51 h => ?_) (fun c51 h => ?_)
      · refine r_aload_n X 2 dX7_item_76 rfl rfl ?_
        obtain ⟨ho52, h⟩ := cO_some h
        refine r_getI (kf := 14) X ho52.1 rfl (by decide) rfl (Or.inr ⟨_, q239⟩) dX7_item_77 ?_
        refine r_bipush X dX7_item_80 (by decide) ?_
        refine r_icmp_ge (tgt := 89) X dX7_item_82 (by decide) h (fun c53 h => ?_) (fun c53 h => ?_)
        · refine r_iconst X dX7_item_85 ?_
          refine r_goto (tgt := 143) X dX7_item_86 (by decide) ?_
          exact V.sub [1, 2, 0] rfl (J143 (t0_j46) (1) (σ_j46) h)
        · refine r_iconst X dX7_item_89 ?_
          refine r_goto (tgt := 143) X dX7_item_90 (by decide) ?_
          exact V.sub [1, 2, 0] rfl (J143 (t0_j46) (0) (σ_j46) h)
      · refine r_iload_n X 3 dX7_item_93 rfl rfl ?_
        refine r_bipush X dX7_item_94 (by decide) ?_
        refine r_icmp_ne (tgt := 116) X dX7_item_96 (by decide) h (fun c54 h => ?_) (fun c54 h => ?_)
        · refine r_aload_n X 2 dX7_item_99 rfl rfl ?_
          obtain ⟨ho55, h⟩ := cO_some h
          refine r_getI (kf := 15) X ho55.1 rfl (by decide) rfl (Or.inr ⟨_, q243⟩) dX7_item_100 ?_
          refine r_bipush X dX7_item_103 (by decide) ?_
          refine r_icmp_ge (tgt := 112) X dX7_item_105 (by decide) h (fun c56 h => ?_) (fun c56 h => ?_)
          · refine r_iconst X dX7_item_108 ?_
            refine r_goto (tgt := 143) X dX7_item_109 (by decide) ?_
            exact V.sub [1, 2, 0] rfl (J143 (t0_j46) (1) (σ_j46) h)
          · refine r_iconst X dX7_item_112 ?_
            refine r_goto (tgt := 143) X dX7_item_113 (by decide) ?_
            exact V.sub [1, 2, 0] rfl (J143 (t0_j46) (0) (σ_j46) h)
        · refine r_iload_n X 3 dX7_item_116 rfl rfl ?_
          refine r_bipush X dX7_item_117 (by decide) ?_
          refine r_icmp_eq (tgt := 138) X dX7_item_119 (by decide) h (fun c57 h => ?_) (fun c57 h => ?_)
          · exact V.sub [1, 2, 0] rfl (J138 (t0_j46) (σ_j46) h)
          · refine r_iload_n X 0 dX7_item_122 rfl rfl ?_
            refine r_iconst X dX7_item_123 ?_
            refine r_icmp_eq (tgt := 142) X dX7_item_124 (by decide) h (fun c58 h => ?_) (fun c58 h => ?_)
            · exact V.sub [1, 2, 0] rfl (J142 (t0_j46) (σ_j46) h)
            · refine r_aload_n X 1 dX7_item_127 rfl rfl ?_
              obtain ⟨ho59, h⟩ := cO_some h
              refine r_getI (kf := 1) X ho59.1 rfl (by decide) rfl (Or.inl q423) dX7_item_128 ?_
              refine r_iload_n X 0 dX7_item_131 rfl rfl ?_
              refine r_ishr X dX7_item_132 ?_
              refine r_iconst X dX7_item_133 ?_
              refine r_iand X dX7_item_134 ?_
              refine r_if_ne (tgt := 142) X dX7_item_135 (by decide) h (fun c60 h => ?_) (fun c60 h => ?_)
              · exact V.sub [1, 2, 0] rfl (J138 (t0_j46) (σ_j46) h)
              · exact V.sub [1, 2, 0] rfl (J142 (t0_j46) (σ_j46) h)
  refine r_aload_n X 0 dX7_item_0 rfl rfl ?_
  obtain ⟨r62, σ63, h61, h⟩ := bd2_some h
  refine r_cV (Wd := 0) X (fun l D sz => w_X7_look l D sz h61) ho0.1 rfl q442 qs2 q440 q110 q443 hy_X7_look rfl dX7_item_1 rfl rfl (Nat.le_of_ble_eq_true rfl) ⟨Nat.le_of_ble_eq_true rfl, Nat.le_of_ble_eq_true rfl⟩ ⟨Nat.le_of_ble_eq_true rfl, Nat.le_of_ble_eq_true rfl⟩ ?_
  refine r_istore_n X dX7_item_4 rfl (hL 2 (by decide)) (lv' := [(2, iv (r62)), (0, .ref (a0)), (1, .ref (p1))]) rfl ?_
  refine r_iload_n X 0 dX7_item_5 rfl rfl ?_
  refine r_bipush X dX7_item_6 (by decide) ?_
  refine r_icmp_ne (tgt := 15) X dX7_item_8 (by decide) h (fun c64 h => ?_) (fun c64 h => ?_)
  · refine r_iconst X dX7_item_11 ?_
    refine r_goto (tgt := 46) X dX7_item_12 (by decide) ?_
    exact V.sub [1, 2, 0] rfl (J46 (r62) (0) (σ63) h)
  · refine r_iload_n X 0 dX7_item_15 rfl rfl ?_
    refine r_bipush X dX7_item_16 (by decide) ?_
    refine r_icmp_ne (tgt := 25) X dX7_item_18 (by decide) h (fun c65 h => ?_) (fun c65 h => ?_)
    · refine r_iconst X dX7_item_21 ?_
      refine r_goto (tgt := 46) X dX7_item_22 (by decide) ?_
      exact V.sub [1, 2, 0] rfl (J46 (r62) (1) (σ63) h)
    · refine r_iload_n X 0 dX7_item_25 rfl rfl ?_
      refine r_bipush X dX7_item_26 (by decide) ?_
      refine r_icmp_ne (tgt := 35) X dX7_item_28 (by decide) h (fun c66 h => ?_) (fun c66 h => ?_)
      · refine r_iconst X dX7_item_31 ?_
        refine r_goto (tgt := 46) X dX7_item_32 (by decide) ?_
        exact V.sub [1, 2, 0] rfl (J46 (r62) (2) (σ63) h)
      · refine r_iload_n X 0 dX7_item_35 rfl rfl ?_
        refine r_bipush X dX7_item_36 (by decide) ?_
        refine r_icmp_ne (tgt := 45) X dX7_item_38 (by decide) h (fun c67 h => ?_) (fun c67 h => ?_)
        · refine r_iconst X dX7_item_41 ?_
          refine r_goto (tgt := 46) X dX7_item_42 (by decide) ?_
          exact V.sub [1, 2, 0] rfl (J46 (r62) (3) (σ63) h)
        · refine r_iconst X dX7_item_45 ?_
          exact V.sub [1, 2, 0] rfl (J46 (r62) ((-1)) (σ63) h)
theorem hy_X7_head : yX7_head.cls ≠ "java/lang/invoke/MethodHandle" ∧ yX7_head.cls ≠ "java/lang/invoke/VarHandle" ∧ (parseMethodDescriptor yX7_head.desc).map (fun d => d.parameters.length) = some 0 := by decide +kernel
set_option maxHeartbeats 4000000 in
theorem w_X7_head (l : Launch) (D : DD) (sz : Nat) {σ : St} {a0 : Nat} {w : St ⊕ (Nat × St)} (h : f_X7_head σ a0 = some w) : Mt l yX7_head cX7_head 2 none ({ frames := 9, cells := 63, slots := 193, locals := 139 } : Room) D sz σ [.ref a0] (Sum.elim (fun q => Outcome.returned none) (fun q => Outcome.threw q.1) w) (Sum.elim (fun q => q) (fun q => q.2) w) (Sum.elim (fun _ => 61) (fun _ => 63) w) (Sum.elim (fun _ => 183) (fun _ => 193) w) := by
  refine Mt.of (by decide +kernel) (Nat.le_of_ble_eq_true rfl) ?_
  intro Γ X hr hnl hini hnoh
  have X : Cx Γ cX7_head "DayBoy$Reader" _ := X
  have hL : ∀ i, i < 2 → i < nLc Γ := fun i q => by rw [hnl]; exact q
  show V Γ σ 0 0 0 [(0, .ref (a0))] []
  unfold f_X7_head at h
  obtain ⟨ho0, h⟩ := cO_some h
  refine r_aload_n X 0 dX7_head_0 rfl rfl ?_
  refine r_getP (kf := 2) X ho0.1 rfl (by decide) rfl (Or.inl q424) dX7_head_1 h (fun b1 h => ?_)
  obtain ⟨ho2, h⟩ := cO_some h
  refine r_getP (kf := 3) X ho2.1 rfl (by decide) rfl (Or.inr ⟨_, q309⟩) dX7_head_4 h (fun b3 h => ?_)
  refine r_astore_n X dX7_head_7 rfl (hL 1 (by decide)) (lv' := [(1, .ref (b3)), (0, .ref (a0))]) rfl ?_
  refine r_aload_n X 0 dX7_head_8 rfl rfl ?_
  obtain ⟨ho5, h⟩ := cO_some h
  obtain ⟨σ6, h4, h⟩ := bd_some h
  refine r_cV (Wd := 0) X (fun l D sz => w_X5_empty l D sz h4) ho5.1 rfl q601 q602 q600 q108 q603 hy_X5_empty rfl dX7_head_9 rfl rfl (Nat.le_of_ble_eq_true rfl) ⟨Nat.le_of_ble_eq_true rfl, Nat.le_of_ble_eq_true rfl⟩ ⟨Nat.le_of_ble_eq_true rfl, Nat.le_of_ble_eq_true rfl⟩ ?_
  refine r_aload_n X 1 dX7_head_12 rfl rfl ?_
  refine r_aload_n X 0 dX7_head_13 rfl rfl ?_
  obtain ⟨ho8, h⟩ := cO_some h
  rcases bT2_some h with ⟨r12, σ9, h7, h⟩ | ⟨xc10, σ11, h7, h⟩
  · refine r_cV (σ' := σ9) (kc := 1) (ks := 3) (Wd := 0) X (fun l D sz => w_X7_item l D sz h7) ho8.1 rfl q606 qs14 q604 q110 q607 hy_X7_item rfl dX7_head_14 rfl rfl (Nat.le_of_ble_eq_true rfl) ⟨Nat.le_of_ble_eq_true rfl, Nat.le_of_ble_eq_true rfl⟩ ⟨Nat.le_of_ble_eq_true rfl, Nat.le_of_ble_eq_true rfl⟩ ?_
    refine r_aload_n X 0 dX7_head_17 rfl rfl ?_
    obtain ⟨σ14, h13, h⟩ := bd_some h
    refine r_joins (Wd := 0) X h13 q692 dX7_head_18 rfl (Nat.le_of_ble_eq_true rfl) ⟨Nat.le_of_ble_eq_true rfl, Nat.le_of_ble_eq_true rfl⟩ ⟨Nat.le_of_ble_eq_true rfl, Nat.le_of_ble_eq_true rfl⟩ ?_
    have L21 : ∀ s : Nat × St, lp (fun s => f_X7_head_b21 (a0) (b3) s.1 s.2) s = some w → V Γ (s.2) (1 + (60 - s.1) * 1) (3 + (60 - s.1) * 3) 21 [(0, .ref (a0)), (1, .ref (b3))] [] := by
      refine lp_rule (P := fun s : Nat × St => V Γ (s.2) (1 + (60 - s.1) * 1) (3 + (60 - s.1) * 3) 21 [(0, .ref (a0)), (1, .ref (b3))] []) ?_
      intro s z1 h ihb1 ihe1
      obtain ⟨cn, σ_1⟩ := s
      have h : f_X7_head_b21 (a0) (b3) cn σ_1 = some z1 := h
      unfold f_X7_head_b21 at h
      show V Γ σ_1 (1 + (60 - cn) * 1) (3 + (60 - cn) * 3) 21 [(0, .ref (a0)), (1, .ref (b3))] []
      obtain ⟨⟨hn1, hn2⟩, h⟩ := ck_some h
      refine r_aload_n X 0 dX7_head_21 rfl rfl ?_
      obtain ⟨ho16, h⟩ := cO_some h
      obtain ⟨r17, σ18, h15, h⟩ := bd2_some h
      refine r_cV (Wd := 0) X (fun l D sz => w_X7_look l D sz h15) ho16.1 rfl q442 qs2 q440 q110 q443 hy_X7_look rfl dX7_head_22 rfl rfl (Nat.le_of_ble_eq_true rfl) ⟨Nat.le_of_ble_eq_true rfl, Nat.le_of_ble_eq_true rfl⟩ ⟨(by show (1 + (60 - cn) * 1) + 0 ≤ 63; omega), (by show (3 + (60 - cn) * 3) + 0 ≤ 193; omega)⟩ ?_
      refine r_bipush X dX7_head_25 (by decide) ?_
      refine r_icmp_ne (tgt := 52) X dX7_head_27 (by decide) h (fun c19 h => ?_) (fun c19 h => ?_)
      · refine r_aload_n X 0 dX7_head_30 rfl rfl ?_
        refine r_dup X dX7_head_31 rfl ?_
        obtain ⟨ho20, h⟩ := cO_some h
        refine r_getI (kf := 0) X ho20.1 rfl (by decide) rfl (Or.inl q422) dX7_head_32 ?_
        refine r_iconst X dX7_head_35 ?_
        refine r_iadd X dX7_head_36 ?_
        refine r_putI (kf := 0) X ho20.1 rfl (by decide) rfl rfl (Or.inl q422) dX7_head_37 rfl ?_
        refine r_let h (fun σ21 eσ21 h => ?_)
        refine r_aload_n X 0 dX7_head_40 rfl rfl ?_
        refine r_aload_n X 1 dX7_head_41 rfl rfl ?_
        have hk23 : oc σ21 (a0) 6 := by rw [eσ21]; exact ho20
        rcases bT2_some h with ⟨r27, σ24, h22, h⟩ | ⟨xc25, σ26, h22, h⟩
        · refine r_cV (σ' := σ24) (kc := 1) (ks := 3) (Wd := 0) X (fun l D sz => w_X7_item l D sz h22) hk23.1 rfl q606 qs14 q604 q110 q607 hy_X7_item rfl dX7_head_42 rfl rfl (Nat.le_of_ble_eq_true rfl) ⟨Nat.le_of_ble_eq_true rfl, Nat.le_of_ble_eq_true rfl⟩ ⟨(by show (1 + (60 - cn) * 1) + 2 ≤ 63; omega), (by show (3 + (60 - cn) * 3) + 10 ≤ 193; omega)⟩ ?_
          refine V.widen (k' := (2 + (60 - cn) * 1)) (n' := (6 + (60 - cn) * 3)) (by show _ ≤ _; omega) (by show _ ≤ _; omega) ?_
          refine r_aload_n X 1 dX7_head_45 rfl rfl ?_
          obtain ⟨σ29, h28, h⟩ := bd_some h
          refine r_joins (Wd := 0) X h28 q692 dX7_head_46 rfl (Nat.le_of_ble_eq_true rfl) ⟨Nat.le_of_ble_eq_true rfl, Nat.le_of_ble_eq_true rfl⟩ ⟨(by show (2 + (60 - cn) * 1) + 0 ≤ 63; omega), (by show (6 + (60 - cn) * 3) + 0 ≤ 193; omega)⟩ ?_
          refine r_goto (tgt := 21) X dX7_head_49 (by decide) ?_
          exact V.widen (by show _ ≤ _; omega) (by show _ ≤ _; omega) <| V.sub [0, 1] rfl (ihb1 _ (Option.some.inj h).symm)
        · refine r_tV (σ' := σ26) (kc := 2) (ks := 10) (Wd := 0) X (fun l D sz => w_X7_item l D sz h22) hk23.1 rfl q606 qs14 q604 q110 q607 hy_X7_item rfl dX7_head_42 rfl (Nat.le_of_ble_eq_true rfl) ⟨Nat.le_of_ble_eq_true rfl, Nat.le_of_ble_eq_true rfl⟩ ⟨(by show (1 + (60 - cn) * 1) + 2 ≤ 63; omega), (by show (3 + (60 - cn) * 3) + 10 ≤ 193; omega)⟩ ?_
          have h := ex_some h ihe1
          cases h
          exact VT.widen (by show _ ≤ 63; omega) (by show _ ≤ 193; omega) <| r_out X hnoh hr
      · have h := ex_some h ihe1
        refine V.widen (k' := 61) (n' := 183) (by show _ ≤ _; omega) (by show _ ≤ _; omega) ?_
        refine r_aload_n X 0 dX7_head_52 rfl rfl ?_
        obtain ⟨ho31, h⟩ := cO_some h
        rcases bT1_some h with ⟨σ32, h30, h⟩ | ⟨xc33, σ34, h30, h⟩
        · refine r_cV (σ' := σ32) (kc := 0) (ks := 0) (Wd := 0) X (fun l D sz => w_X7_ends l D sz h30) ho31.1 rfl q594 qs13 q592 q110 q595 hy_X7_ends rfl dX7_head_53 rfl rfl (Nat.le_of_ble_eq_true rfl) ⟨Nat.le_of_ble_eq_true rfl, Nat.le_of_ble_eq_true rfl⟩ ⟨Nat.le_of_ble_eq_true rfl, Nat.le_of_ble_eq_true rfl⟩ ?_
          cases h
          exact r_vret X hr dX7_head_56
        · refine r_tV (σ' := σ34) (kc := 1) (ks := 7) (Wd := 0) X (fun l D sz => w_X7_ends l D sz h30) ho31.1 rfl q594 qs13 q592 q110 q595 hy_X7_ends rfl dX7_head_53 rfl (Nat.le_of_ble_eq_true rfl) ⟨Nat.le_of_ble_eq_true rfl, Nat.le_of_ble_eq_true rfl⟩ ⟨Nat.le_of_ble_eq_true rfl, Nat.le_of_ble_eq_true rfl⟩ ?_
          cases h
          exact VT.widen (by show _ ≤ 63; omega) (by show _ ≤ 193; omega) <| r_out X hnoh hr
    exact V.sub [1, 0] rfl (L21 (60, σ14) h)
  · refine r_tV (σ' := σ11) (kc := 2) (ks := 10) (Wd := 0) X (fun l D sz => w_X7_item l D sz h7) ho8.1 rfl q606 qs14 q604 q110 q607 hy_X7_item rfl dX7_head_14 rfl (Nat.le_of_ble_eq_true rfl) ⟨Nat.le_of_ble_eq_true rfl, Nat.le_of_ble_eq_true rfl⟩ ⟨Nat.le_of_ble_eq_true rfl, Nat.le_of_ble_eq_true rfl⟩ ?_
    cases h
    exact VT.widen (by show _ ≤ 63; omega) (by show _ ≤ 193; omega) <| r_out X hnoh hr
theorem hy_X7_row : yX7_row.cls ≠ "java/lang/invoke/MethodHandle" ∧ yX7_row.cls ≠ "java/lang/invoke/VarHandle" ∧ (parseMethodDescriptor yX7_row.desc).map (fun d => d.parameters.length) = some 0 := by decide +kernel
set_option maxHeartbeats 4000000 in
theorem w_X7_row (l : Launch) (D : DD) (sz : Nat) {σ : St} {a0 : Nat} {w : (Int × St) ⊕ (Nat × St)} (h : f_X7_row σ a0 = some w) : Mt l yX7_row cX7_row 5 (some FieldType.int) ({ frames := 7, cells := 1, slots := 7, locals := 107 } : Room) D sz σ [.ref a0] (Sum.elim (fun q => Outcome.returned (some (iv q.1))) (fun q => Outcome.threw q.1) w) (Sum.elim (fun q => q.2) (fun q => q.2) w) (Sum.elim (fun _ => 0) (fun _ => 1) w) (Sum.elim (fun _ => 0) (fun _ => 7) w) := by
  refine Mt.of (by decide +kernel) (Nat.le_of_ble_eq_true rfl) ?_
  intro Γ X hr hnl hini hnoh
  have X : Cx Γ cX7_row "DayBoy$Reader" _ := X
  have hL : ∀ i, i < 5 → i < nLc Γ := fun i q => by rw [hnl]; exact q
  show V Γ σ 0 0 0 [(0, .ref (a0))] []
  unfold f_X7_row at h
  obtain ⟨ho0, h⟩ := cO_some h
  refine r_iconst X dX7_row_0 ?_
  refine r_istore_n X dX7_row_1 rfl (hL 1 (by decide)) (lv' := [(1, iv (0)), (0, .ref (a0))]) rfl ?_
  refine r_iconst X dX7_row_2 ?_
  refine r_istore_n X dX7_row_3 rfl (hL 2 (by decide)) (lv' := [(2, iv (1)), (1, iv (0)), (0, .ref (a0))]) rfl ?_
  have L4 : ∀ s : Int × Int × St, lp (fun s => f_X7_row_b4 (a0) s.1 s.2.1 s.2.2) s = some w → V Γ (s.2.2) 0 0 4 [(0, .ref (a0)), (1, iv (s.1)), (2, iv (s.2.1))] [] := by
    refine lp_rule (P := fun s : Int × Int × St => V Γ (s.2.2) 0 0 4 [(0, .ref (a0)), (1, iv (s.1)), (2, iv (s.2.1))] []) ?_
    intro s z1 h ihb1 ihe1
    obtain ⟨v1_1, v2_1, σ_1⟩ := s
    have h : f_X7_row_b4 (a0) v1_1 v2_1 σ_1 = some z1 := h
    unfold f_X7_row_b4 at h
    show V Γ σ_1 0 0 4 [(0, .ref (a0)), (1, iv (v1_1)), (2, iv (v2_1))] []
    have J128 : ∀ (v1_j128 : Int) (t0_j128 : Int) (σ_j128 : St), f_X7_row_j128 (a0) v1_j128 t0_j128 σ_j128 = some z1 → V Γ σ_j128 0 0 128 [(0, .ref (a0)), (1, iv (v1_j128))] [iv (t0_j128)] := by
      intro v1_j128 t0_j128 σ_j128 h
      unfold f_X7_row_j128 at h
      refine r_istore_n X dX7_row_128 rfl (hL 2 (by decide)) (lv' := [(2, iv (t0_j128)), (0, .ref (a0)), (1, iv (v1_j128))]) rfl ?_
      refine r_iload_n X 0 dX7_row_129 rfl rfl ?_
      refine r_if_eq (tgt := 143) X dX7_row_130 (by decide) h (fun c1 h => ?_) (fun c1 h => ?_)
      · refine r_goto (tgt := 4) X dX7_row_143 (by decide) ?_
        exact V.sub [1, 2, 0] rfl (ihb1 _ (Option.some.inj h).symm)
      · refine r_aload_n X 1 dX7_row_133 rfl rfl ?_
        refine r_dup X dX7_row_134 rfl ?_
        obtain ⟨ho2, h⟩ := cO_some h
        refine r_getI (kf := 0) X ho2.1 rfl (by decide) rfl (Or.inl q422) dX7_row_135 ?_
        refine r_iconst X dX7_row_138 ?_
        refine r_iadd X dX7_row_139 ?_
        refine r_putI (kf := 0) X ho2.1 rfl (by decide) rfl rfl (Or.inl q422) dX7_row_140 rfl ?_
        refine r_let h (fun σ3 eσ3 h => ?_)
        refine r_goto (tgt := 4) X dX7_row_143 (by decide) ?_
        exact V.sub [1, 2, 0] rfl (ihb1 _ (Option.some.inj h).symm)
    have J111 : ∀ (v1_j111 : Int) (σ_j111 : St), f_X7_row_j111 (a0) v1_j111 σ_j111 = some z1 → V Γ σ_j111 0 0 111 [(0, .ref (a0)), (1, iv (v1_j111))] [] := by
      intro v1_j111 σ_j111 h
      unfold f_X7_row_j111 at h
      refine r_iinc X 1 dX7_row_111 rfl (hL 1 (by decide)) (lv' := [(1, iv ((v1_j111 + 1))), (0, .ref (a0))]) rfl ?_
      refine r_aload_n X 1 dX7_row_114 rfl rfl ?_
      obtain ⟨ho5, h⟩ := cO_some h
      obtain ⟨r6, σ7, h4, h⟩ := bd2_some h
      refine r_cV (Wd := 0) X (fun l D sz => w_X7_look l D sz h4) ho5.1 rfl q442 qs2 q440 q110 q443 hy_X7_look rfl dX7_row_115 rfl rfl (Nat.le_of_ble_eq_true rfl) ⟨Nat.le_of_ble_eq_true rfl, Nat.le_of_ble_eq_true rfl⟩ ⟨Nat.le_of_ble_eq_true rfl, Nat.le_of_ble_eq_true rfl⟩ ?_
      refine r_bipush X dX7_row_118 (by decide) ?_
      refine r_icmp_ne (tgt := 127) X dX7_row_120 (by decide) h (fun c8 h => ?_) (fun c8 h => ?_)
      · refine r_iconst X dX7_row_123 ?_
        refine r_goto (tgt := 128) X dX7_row_124 (by decide) ?_
        exact V.sub [1, 0] rfl (J128 ((v1_j111 + 1)) (1) (σ7) h)
      · refine r_iconst X dX7_row_127 ?_
        exact V.sub [1, 0] rfl (J128 ((v1_j111 + 1)) (0) (σ7) h)
    have J63 : ∀ (v1_j63 : Int) (v3_j63 : Int) (t0_j63 : Int) (t1_j63 : Int) (t2_j63 : Nat) (σ_j63 : St), f_X7_row_j63 (a0) v1_j63 v3_j63 t0_j63 t1_j63 t2_j63 σ_j63 = some z1 → V Γ σ_j63 0 0 63 [(0, .ref (a0)), (1, iv (v1_j63)), (3, iv (v3_j63))] [iv (t0_j63), iv (t1_j63), va_rf (aR (σ_j63) (t2_j63) 8)] := by
      intro v1_j63 v3_j63 t0_j63 t1_j63 t2_j63 σ_j63 h
      unfold f_X7_row_j63 at h
      obtain ⟨ho9, h⟩ := cO_some h
      refine r_iast X ho9.1 (ho9.2 8 (by decide)) rfl rfl rfl (by decide) dX7_row_63 h (fun h => ?_)
      refine r_let h (fun σ10 eσ10 h => ?_)
      refine r_iconst X dX7_row_64 ?_
      refine r_istore X dX7_row_65 (hL 4 (by decide)) (lv' := [(4, iv (1)), (0, .ref (a0)), (1, iv (v1_j63)), (3, iv (v3_j63))]) rfl ?_
      have L67 : ∀ s : Int × St, lp (fun s => f_X7_row_b67 (a0) (v1_j63) (v3_j63) s.1 s.2) s = some z1 → V Γ (s.2) 0 0 67 [(0, .ref (a0)), (1, iv (v1_j63)), (3, iv (v3_j63)), (4, iv (s.1))] [] := by
        refine lp_rule (P := fun s : Int × St => V Γ (s.2) 0 0 67 [(0, .ref (a0)), (1, iv (v1_j63)), (3, iv (v3_j63)), (4, iv (s.1))] []) ?_
        intro s z2 h ihb2 ihe2
        obtain ⟨v4_2, σ_2⟩ := s
        have h : f_X7_row_b67 (a0) (v1_j63) (v3_j63) v4_2 σ_2 = some z2 := h
        unfold f_X7_row_b67 at h
        show V Γ σ_2 0 0 67 [(0, .ref (a0)), (1, iv (v1_j63)), (3, iv (v3_j63)), (4, iv (v4_2))] []
        refine r_iload X 3 dX7_row_67 rfl ?_
        refine r_iconst X dX7_row_69 ?_
        refine r_icmp_ge (tgt := 111) X dX7_row_70 (by decide) h (fun c11 h => ?_) (fun c11 h => ?_)
        · refine r_iload_n X 2 dX7_row_73 rfl rfl ?_
          refine r_if_ne (tgt := 111) X dX7_row_74 (by decide) h (fun c12 h => ?_) (fun c12 h => ?_)
          · refine r_aload_n X 0 dX7_row_77 rfl rfl ?_
            refine r_bipush X dX7_row_78 (by decide) ?_
            obtain ⟨ho14, h⟩ := cO_some h
            rcases bT1_some h with ⟨σ15, h13, h⟩ | ⟨xc16, σ17, h13, h⟩
            · refine r_cV (σ' := σ15) (kc := 0) (ks := 0) (Wd := 0) X (fun l D sz => w_X7_takes l D sz h13) ho14.1 rfl q532 qs8 q530 q110 q533 hy_X7_takes rfl dX7_row_80 rfl rfl (Nat.le_of_ble_eq_true rfl) ⟨Nat.le_of_ble_eq_true rfl, Nat.le_of_ble_eq_true rfl⟩ ⟨Nat.le_of_ble_eq_true rfl, Nat.le_of_ble_eq_true rfl⟩ ?_
              refine r_aload_n X 0 dX7_row_83 rfl rfl ?_
              obtain ⟨ho19, h⟩ := cO_some h
              refine r_getP (kf := 2) X ho19.1 rfl (by decide) rfl (Or.inl q424) dX7_row_84 h (fun b20 h => ?_)
              obtain ⟨ho21, h⟩ := cO_some h
              refine r_getA (kf := 8) X ho21.1 rfl (by decide) (by decide) (Or.inr ⟨_, q315⟩) dX7_row_87 ?_
              refine r_iconst X dX7_row_90 ?_
              refine r_iload_n X 1 dX7_row_91 rfl rfl ?_
              refine r_imul X dX7_row_92 ?_
              refine r_iload X 3 dX7_row_93 rfl ?_
              refine r_iadd X dX7_row_95 ?_
              refine r_aload_n X 0 dX7_row_96 rfl rfl ?_
              refine r_iconst X dX7_row_97 ?_
              refine r_sipush X dX7_row_98 (by decide) ?_
              rcases bT2_some h with ⟨r26, σ23, h22, h⟩ | ⟨xc24, σ25, h22, h⟩
              · refine r_cV (σ' := σ23) (kc := 0) (ks := 0) (Wd := 2) X (fun l D sz => w_X7_number l D sz h22) ho19.1 rfl q438 qs1 q436 q110 q439 hy_X7_number rfl dX7_row_101 rfl rfl (by simp only [List.map_cons, List.map_nil, cat_rf, cat_iv, cat_jv, cat_ref, List.sum_cons, List.sum_nil]; decide) ⟨Nat.le_of_ble_eq_true rfl, Nat.le_of_ble_eq_true rfl⟩ ⟨Nat.le_of_ble_eq_true rfl, Nat.le_of_ble_eq_true rfl⟩ ?_
                obtain ⟨ho27, h⟩ := cO_some h
                obtain ⟨hv28, h⟩ := ck_some h
                rw [← hv28]
                refine r_iast X ho27.1 (ho27.2 8 (by decide)) rfl rfl rfl (by decide) dX7_row_104 h (fun h => ?_)
                refine r_let h (fun σ29 eσ29 h => ?_)
                refine r_iinc X 3 dX7_row_105 rfl (hL 4 (by decide)) (lv' := [(4, iv ((v4_2 + 1))), (0, .ref (a0)), (1, iv (v1_j63)), (3, iv (v3_j63))]) rfl ?_
                refine r_goto (tgt := 67) X dX7_row_108 (by decide) ?_
                exact V.sub [1, 2, 3, 0] rfl (ihb2 _ (Option.some.inj h).symm)
              · refine r_tV (σ' := σ25) (kc := 1) (ks := 7) (Wd := 2) X (fun l D sz => w_X7_number l D sz h22) ho19.1 rfl q438 qs1 q436 q110 q439 hy_X7_number rfl dX7_row_101 rfl (by simp only [List.map_cons, List.map_nil, cat_rf, cat_iv, cat_jv, cat_ref, List.sum_cons, List.sum_nil]; decide) ⟨Nat.le_of_ble_eq_true rfl, Nat.le_of_ble_eq_true rfl⟩ ⟨Nat.le_of_ble_eq_true rfl, Nat.le_of_ble_eq_true rfl⟩ ?_
                have h := ex_some h ihe2
                have h := ex_some h ihe1
                cases h
                exact r_out X hnoh hr
            · refine r_tV (σ' := σ17) (kc := 1) (ks := 7) (Wd := 0) X (fun l D sz => w_X7_takes l D sz h13) ho14.1 rfl q532 qs8 q530 q110 q533 hy_X7_takes rfl dX7_row_80 rfl (Nat.le_of_ble_eq_true rfl) ⟨Nat.le_of_ble_eq_true rfl, Nat.le_of_ble_eq_true rfl⟩ ⟨Nat.le_of_ble_eq_true rfl, Nat.le_of_ble_eq_true rfl⟩ ?_
              have h := ex_some h ihe2
              have h := ex_some h ihe1
              cases h
              exact r_out X hnoh hr
          · have h := ex_some h ihe2
            exact V.sub [0, 1] rfl (J111 (v1_j63) (σ_2) h)
        · have h := ex_some h ihe2
          exact V.sub [0, 1] rfl (J111 (v1_j63) (σ_2) h)
      exact V.sub [1, 2, 3, 0] rfl (L67 (1, σ10) h)
    have J37 : ∀ (v1_j37 : Int) (v3_j37 : Int) (σ_j37 : St), f_X7_row_j37 (a0) v1_j37 v3_j37 σ_j37 = some z1 → V Γ σ_j37 0 0 37 [(0, .ref (a0)), (1, iv (v1_j37)), (3, iv (v3_j37))] [] := by
      intro v1_j37 v3_j37 σ_j37 h
      unfold f_X7_row_j37 at h
      refine r_aload_n X 0 dX7_row_37 rfl rfl ?_
      obtain ⟨ho30, h⟩ := cO_some h
      refine r_getP (kf := 2) X ho30.1 rfl (by decide) rfl (Or.inl q424) dX7_row_38 h (fun b31 h => ?_)
      obtain ⟨ho32, h⟩ := cO_some h
      refine r_getA (kf := 8) X ho32.1 rfl (by decide) (by decide) (Or.inr ⟨_, q315⟩) dX7_row_41 ?_
      refine r_iconst X dX7_row_44 ?_
      refine r_iload_n X 1 dX7_row_45 rfl rfl ?_
      refine r_imul X dX7_row_46 ?_
      refine r_iload_n X 2 dX7_row_47 rfl rfl ?_
      refine r_if_eq (tgt := 55) X dX7_row_48 (by decide) h (fun c33 h => ?_) (fun c33 h => ?_)
      · refine r_aload_n X 0 dX7_row_55 rfl rfl ?_
        refine r_iconst X dX7_row_56 ?_
        refine r_sipush X dX7_row_57 (by decide) ?_
        rcases bT2_some h with ⟨r38, σ35, h34, h⟩ | ⟨xc36, σ37, h34, h⟩
        · refine r_cV (σ' := σ35) (kc := 0) (ks := 0) (Wd := 2) X (fun l D sz => w_X7_number l D sz h34) ho30.1 rfl q438 qs1 q436 q110 q439 hy_X7_number rfl dX7_row_60 rfl rfl (by simp only [List.map_cons, List.map_nil, cat_rf, cat_iv, cat_jv, cat_ref, List.sum_cons, List.sum_nil]; decide) ⟨Nat.le_of_ble_eq_true rfl, Nat.le_of_ble_eq_true rfl⟩ ⟨Nat.le_of_ble_eq_true rfl, Nat.le_of_ble_eq_true rfl⟩ ?_
          obtain ⟨ho39, h⟩ := cO_some h
          obtain ⟨hv40, h⟩ := ck_some h
          rw [← hv40]
          exact V.sub [0, 1, 2] rfl (J63 (v1_j37) (v3_j37) (r38) ((3 * v1_j37)) (b31) (σ35) h)
        · refine r_tV (σ' := σ37) (kc := 1) (ks := 7) (Wd := 2) X (fun l D sz => w_X7_number l D sz h34) ho30.1 rfl q438 qs1 q436 q110 q439 hy_X7_number rfl dX7_row_60 rfl (by simp only [List.map_cons, List.map_nil, cat_rf, cat_iv, cat_jv, cat_ref, List.sum_cons, List.sum_nil]; decide) ⟨Nat.le_of_ble_eq_true rfl, Nat.le_of_ble_eq_true rfl⟩ ⟨Nat.le_of_ble_eq_true rfl, Nat.le_of_ble_eq_true rfl⟩ ?_
          have h := ex_some h ihe1
          cases h
          exact r_out X hnoh hr
      · refine r_iconst X dX7_row_51 ?_
        refine r_goto (tgt := 63) X dX7_row_52 (by decide) ?_
        exact V.sub [0, 1, 2] rfl (J63 (v1_j37) (v3_j37) ((-1)) ((3 * v1_j37)) (b31) (σ_j37) h)
    have J22 : ∀ (v1_j22 : Int) (t0_j22 : Int) (σ_j22 : St), f_X7_row_j22 (a0) v1_j22 t0_j22 σ_j22 = some z1 → V Γ σ_j22 0 0 22 [(0, .ref (a0)), (1, iv (v1_j22))] [iv (t0_j22)] := by
      intro v1_j22 t0_j22 σ_j22 h
      unfold f_X7_row_j22 at h
      refine r_istore_n X dX7_row_22 rfl (hL 3 (by decide)) (lv' := [(3, iv (t0_j22)), (0, .ref (a0)), (1, iv (v1_j22))]) rfl ?_
      refine r_iload_n X 0 dX7_row_23 rfl rfl ?_
      refine r_if_eq (tgt := 37) X dX7_row_24 (by decide) h (fun c41 h => ?_) (fun c41 h => ?_)
      · exact V.sub [1, 2, 0] rfl (J37 (v1_j22) (t0_j22) (σ_j22) h)
      · refine r_aload_n X 1 dX7_row_27 rfl rfl ?_
        refine r_dup X dX7_row_28 rfl ?_
        obtain ⟨ho42, h⟩ := cO_some h
        refine r_getI (kf := 0) X ho42.1 rfl (by decide) rfl (Or.inl q422) dX7_row_29 ?_
        refine r_iconst X dX7_row_32 ?_
        refine r_iadd X dX7_row_33 ?_
        refine r_putI (kf := 0) X ho42.1 rfl (by decide) rfl rfl (Or.inl q422) dX7_row_34 rfl ?_
        refine r_let h (fun σ43 eσ43 h => ?_)
        exact V.sub [1, 2, 0] rfl (J37 (v1_j22) (t0_j22) (σ43) h)
    refine r_iload_n X 2 dX7_row_4 rfl rfl ?_
    refine r_if_eq (tgt := 146) X dX7_row_5 (by decide) h (fun c44 h => ?_) (fun c44 h => ?_)
    · have h := ex_some h ihe1
      refine r_aload_n X 0 dX7_row_146 rfl rfl ?_
      obtain ⟨ho46, h⟩ := cO_some h
      rcases bT1_some h with ⟨σ47, h45, h⟩ | ⟨xc48, σ49, h45, h⟩
      · refine r_cV (σ' := σ47) (kc := 0) (ks := 0) (Wd := 0) X (fun l D sz => w_X7_ends l D sz h45) ho46.1 rfl q594 qs13 q592 q110 q595 hy_X7_ends rfl dX7_row_147 rfl rfl (Nat.le_of_ble_eq_true rfl) ⟨Nat.le_of_ble_eq_true rfl, Nat.le_of_ble_eq_true rfl⟩ ⟨Nat.le_of_ble_eq_true rfl, Nat.le_of_ble_eq_true rfl⟩ ?_
        refine r_iload_n X 1 dX7_row_150 rfl rfl ?_
        cases h
        exact r_iret X hr dX7_row_151
      · refine r_tV (σ' := σ49) (kc := 1) (ks := 7) (Wd := 0) X (fun l D sz => w_X7_ends l D sz h45) ho46.1 rfl q594 qs13 q592 q110 q595 hy_X7_ends rfl dX7_row_147 rfl (Nat.le_of_ble_eq_true rfl) ⟨Nat.le_of_ble_eq_true rfl, Nat.le_of_ble_eq_true rfl⟩ ⟨Nat.le_of_ble_eq_true rfl, Nat.le_of_ble_eq_true rfl⟩ ?_
        cases h
        exact r_out X hnoh hr
    · refine r_aload_n X 0 dX7_row_8 rfl rfl ?_
      obtain ⟨ho52, h⟩ := cO_some h
      obtain ⟨r53, σ54, h51, h⟩ := bd2_some h
      refine r_cV (Wd := 0) X (fun l D sz => w_X7_look l D sz h51) ho52.1 rfl q442 qs2 q440 q110 q443 hy_X7_look rfl dX7_row_9 rfl rfl (Nat.le_of_ble_eq_true rfl) ⟨Nat.le_of_ble_eq_true rfl, Nat.le_of_ble_eq_true rfl⟩ ⟨Nat.le_of_ble_eq_true rfl, Nat.le_of_ble_eq_true rfl⟩ ?_
      refine r_bipush X dX7_row_12 (by decide) ?_
      refine r_icmp_ne (tgt := 21) X dX7_row_14 (by decide) h (fun c55 h => ?_) (fun c55 h => ?_)
      · refine r_iconst X dX7_row_17 ?_
        refine r_goto (tgt := 22) X dX7_row_18 (by decide) ?_
        exact V.sub [0, 1] rfl (J22 (v1_1) (1) (σ54) h)
      · refine r_iconst X dX7_row_21 ?_
        exact V.sub [0, 1] rfl (J22 (v1_1) (0) (σ54) h)
  exact V.sub [2, 1, 0] rfl (L4 (0, 1, σ) h)
theorem hy_X1_fault : yX1_fault.cls ≠ "java/lang/invoke/MethodHandle" ∧ yX1_fault.cls ≠ "java/lang/invoke/VarHandle" ∧ (parseMethodDescriptor yX1_fault.desc).map (fun d => d.parameters.length) = some 1 := by decide +kernel
set_option maxHeartbeats 4000000 in
theorem w_X1_fault (l : Launch) (D : DD) (sz : Nat) {σ : St} {a0 : Nat} {x1 : Int} {w : Int × St} (h : f_X1_fault σ a0 x1 = some w) : MtW l yX1_fault cX1_fault 3 (some FieldType.int) [(15, 56, 57, 110)] ({ frames := 10, cells := 64, slots := 196, locals := 154 } : Room) D sz σ [.ref a0, iv (x1)] (.returned (some (iv w.1))) (w.2) 64 196 := by
  refine MtW.of (by decide +kernel) (Nat.le_of_ble_eq_true rfl) ?_
  intro Γ X hr hnl hnoh
  have X : Cx Γ cX1_fault "DayBoy" _ := X
  have hL : ∀ i, i < 3 → i < nLc Γ := fun i q => by rw [hnl]; exact q
  show V Γ σ 0 0 0 [(0, .ref (a0)), (1, iv (x1))] []
  unfold f_X1_fault at h
  obtain ⟨ho0, h⟩ := cO_some h
  refine r_iload_n X 1 dX1_fault_0 rfl rfl ?_
  obtain ⟨c1, h⟩ := ck_some h
  refine r_i2l X dX1_fault_1 c1 ?_
  refine r_lconst (y := 0) X dX1_fault_2 rfl ?_
  refine r_ldc2 (z := 2) X q412 dX1_fault_3 rfl ?_
  obtain ⟨r3, h2, h⟩ := bd_some h
  refine r_cS (Wd := 0) X (fun l D sz => w_X1_isIn l D sz h2) q414 q413 q104 q415 hy_X1_isIn rfl dX1_fault_6 rfl rfl (Nat.le_of_ble_eq_true rfl) ⟨Nat.le_of_ble_eq_true rfl, Nat.le_of_ble_eq_true rfl⟩ ⟨Nat.le_of_ble_eq_true rfl, Nat.le_of_ble_eq_true rfl⟩ ?_
  refine r_if_ne (tgt := 15) X dX1_fault_9 (by decide) h (fun c4 h => ?_) (fun c4 h => ?_)
  · refine r_bipush X dX1_fault_12 (by decide) ?_
    cases h
    exact V.widen (Nat.le_of_ble_eq_true rfl) (Nat.le_of_ble_eq_true rfl) <| r_iret X hr dX1_fault_14
  · refine r_new (c := 6) (N := 3) X rfl rfl (by decide) q416 q417 q110 dX1_fault_15 (by decide) (by decide) ?_
    refine r_let h (fun σ5 eσ5 h => ?_)
    have hk6 : cL σ5 (nX (σ)) = some 6 := by rw [eσ5, cL_nO, if_pos rfl]
    have ho7 : oc σ5 (nX (σ)) 6 := ⟨hk6, fun k hk => by cases hk⟩
    refine r_dup X dX1_fault_18 rfl ?_
    refine r_aload_n X 0 dX1_fault_19 rfl rfl ?_
    obtain ⟨σ9, h8, h⟩ := bd_some h
    refine r_cIN (Wd := 1) X (fun l D sz => w_X7_init l D sz h8) rfl rfl q419 q418 q110 q420 hy_X7_init rfl dX1_fault_20 rfl rfl (Nat.le_of_ble_eq_true rfl) ⟨Nat.le_of_ble_eq_true rfl, Nat.le_of_ble_eq_true rfl⟩ ⟨Nat.le_of_ble_eq_true rfl, Nat.le_of_ble_eq_true rfl⟩ ?_
    refine r_astore_n X dX1_fault_23 rfl (hL 2 (by decide)) (lv' := [(2, .ref (nX (σ))), (0, .ref (a0)), (1, iv (x1))]) rfl ?_
    refine r_iload_n X 2 dX1_fault_24 rfl rfl ?_
    refine r_if_ne (tgt := 35) X dX1_fault_25 (by decide) h (fun c10 h => ?_) (fun c10 h => ?_)
    · refine r_aload_n X 0 dX1_fault_28 rfl rfl ?_
      obtain ⟨ho12, h⟩ := cO_some h
      rcases bT1_some h with ⟨σ13, h11, h⟩ | ⟨xc14, σ15, h11, h⟩
      · refine r_cV (σ' := σ13) (kc := 0) (ks := 0) (Wd := 0) X (fun l D sz => w_X7_calendar l D sz h11) ho12.1 rfl q433 q434 q432 q110 q435 hy_X7_calendar rfl dX1_fault_29 rfl rfl (Nat.le_of_ble_eq_true rfl) ⟨Nat.le_of_ble_eq_true rfl, Nat.le_of_ble_eq_true rfl⟩ ⟨Nat.le_of_ble_eq_true rfl, Nat.le_of_ble_eq_true rfl⟩ ?_
        refine r_goto (tgt := 55) X dX1_fault_32 (by decide) ?_
        refine r_iconst X dX1_fault_55 ?_
        cases h
        exact V.widen (Nat.le_of_ble_eq_true rfl) (Nat.le_of_ble_eq_true rfl) <| r_iret X hr dX1_fault_56
      · refine r_tV (σ' := σ15) (kc := 1) (ks := 7) (Wd := 0) X (fun l D sz => w_X7_calendar l D sz h11) ho12.1 rfl q433 q434 q432 q110 q435 hy_X7_calendar rfl dX1_fault_29 rfl (Nat.le_of_ble_eq_true rfl) ⟨Nat.le_of_ble_eq_true rfl, Nat.le_of_ble_eq_true rfl⟩ ⟨Nat.le_of_ble_eq_true rfl, Nat.le_of_ble_eq_true rfl⟩ ?_
        obtain ⟨ho17, h⟩ := cO_some h
        refine r_catch X hnoh (by decide) (by decide) ho17.1 rfl q411 ?_
        refine r_astore_n X dX1_fault_57 rfl (hL 2 (by decide)) (lv' := [(2, .ref (xc14)), (0, .ref (a0)), (1, iv (x1))]) rfl ?_
        refine r_aload_n X 0 dX1_fault_58 rfl rfl ?_
        refine r_getI (kf := 6) X ho17.1 rfl (by decide) rfl (Or.inr ⟨_, q509⟩) dX1_fault_59 ?_
        cases h
        exact V.widen (Nat.le_of_ble_eq_true rfl) (Nat.le_of_ble_eq_true rfl) <| r_iret X hr dX1_fault_62
    · refine r_iload_n X 2 dX1_fault_35 rfl rfl ?_
      refine r_iconst X dX1_fault_36 ?_
      refine r_icmp_ne (tgt := 47) X dX1_fault_37 (by decide) h (fun c18 h => ?_) (fun c18 h => ?_)
      · refine r_aload_n X 0 dX1_fault_40 rfl rfl ?_
        obtain ⟨ho20, h⟩ := cO_some h
        rcases bT1_some h with ⟨σ21, h19, h⟩ | ⟨xc22, σ23, h19, h⟩
        · refine r_cV (σ' := σ21) (kc := 61) (ks := 183) (Wd := 0) X (fun l D sz => w_X7_head l D sz h19) ho20.1 rfl q597 q598 q596 q110 q599 hy_X7_head rfl dX1_fault_41 rfl rfl (Nat.le_of_ble_eq_true rfl) ⟨Nat.le_of_ble_eq_true rfl, Nat.le_of_ble_eq_true rfl⟩ ⟨Nat.le_of_ble_eq_true rfl, Nat.le_of_ble_eq_true rfl⟩ ?_
          refine r_goto (tgt := 55) X dX1_fault_44 (by decide) ?_
          refine r_iconst X dX1_fault_55 ?_
          cases h
          exact V.widen (Nat.le_of_ble_eq_true rfl) (Nat.le_of_ble_eq_true rfl) <| r_iret X hr dX1_fault_56
        · refine r_tV (σ' := σ23) (kc := 63) (ks := 193) (Wd := 0) X (fun l D sz => w_X7_head l D sz h19) ho20.1 rfl q597 q598 q596 q110 q599 hy_X7_head rfl dX1_fault_41 rfl (Nat.le_of_ble_eq_true rfl) ⟨Nat.le_of_ble_eq_true rfl, Nat.le_of_ble_eq_true rfl⟩ ⟨Nat.le_of_ble_eq_true rfl, Nat.le_of_ble_eq_true rfl⟩ ?_
          obtain ⟨ho25, h⟩ := cO_some h
          refine r_catch X hnoh (by decide) (by decide) ho25.1 rfl q411 ?_
          refine r_astore_n X dX1_fault_57 rfl (hL 2 (by decide)) (lv' := [(2, .ref (xc22)), (0, .ref (a0)), (1, iv (x1))]) rfl ?_
          refine r_aload_n X 0 dX1_fault_58 rfl rfl ?_
          refine r_getI (kf := 6) X ho25.1 rfl (by decide) rfl (Or.inr ⟨_, q509⟩) dX1_fault_59 ?_
          cases h
          exact r_iret X hr dX1_fault_62
      · refine r_aload_n X 1 dX1_fault_47 rfl rfl ?_
        refine r_aload_n X 0 dX1_fault_48 rfl rfl ?_
        obtain ⟨ho27, h⟩ := cO_some h
        rcases bT2_some h with ⟨r31, σ28, h26, h⟩ | ⟨xc29, σ30, h26, h⟩
        · refine r_cV (σ' := σ28) (kc := 0) (ks := 0) (Wd := 1) X (fun l D sz => w_X7_row l D sz h26) ho27.1 rfl q711 q712 q710 q110 q713 hy_X7_row rfl dX1_fault_49 rfl rfl (Nat.le_of_ble_eq_true rfl) ⟨Nat.le_of_ble_eq_true rfl, Nat.le_of_ble_eq_true rfl⟩ ⟨Nat.le_of_ble_eq_true rfl, Nat.le_of_ble_eq_true rfl⟩ ?_
          obtain ⟨ho32, h⟩ := cO_some h
          refine r_putI (kf := 11) X ho32.1 rfl (by decide) rfl rfl (Or.inl q318) dX1_fault_52 rfl ?_
          refine r_let h (fun σ33 eσ33 h => ?_)
          refine r_iconst X dX1_fault_55 ?_
          cases h
          exact V.widen (Nat.le_of_ble_eq_true rfl) (Nat.le_of_ble_eq_true rfl) <| r_iret X hr dX1_fault_56
        · refine r_tV (σ' := σ30) (kc := 1) (ks := 7) (Wd := 1) X (fun l D sz => w_X7_row l D sz h26) ho27.1 rfl q711 q712 q710 q110 q713 hy_X7_row rfl dX1_fault_49 rfl (Nat.le_of_ble_eq_true rfl) ⟨Nat.le_of_ble_eq_true rfl, Nat.le_of_ble_eq_true rfl⟩ ⟨Nat.le_of_ble_eq_true rfl, Nat.le_of_ble_eq_true rfl⟩ ?_
          obtain ⟨ho34, h⟩ := cO_some h
          refine r_catch X hnoh (by decide) (by decide) ho34.1 rfl q411 ?_
          refine r_astore_n X dX1_fault_57 rfl (hL 2 (by decide)) (lv' := [(2, .ref (xc29)), (0, .ref (a0)), (1, iv (x1))]) rfl ?_
          refine r_aload_n X 0 dX1_fault_58 rfl rfl ?_
          refine r_getI (kf := 6) X ho34.1 rfl (by decide) rfl (Or.inr ⟨_, q509⟩) dX1_fault_59 ?_
          cases h
          exact V.widen (Nat.le_of_ble_eq_true rfl) (Nat.le_of_ble_eq_true rfl) <| r_iret X hr dX1_fault_62
theorem hy_X1_text : yX1_text.cls ≠ "java/lang/invoke/MethodHandle" ∧ yX1_text.cls ≠ "java/lang/invoke/VarHandle" ∧ (parseMethodDescriptor yX1_text.desc).map (fun d => d.parameters.length) = some 1 := by decide +kernel
set_option maxHeartbeats 4000000 in
theorem w_X1_text (l : Launch) (D : DD) (sz : Nat) {σ : St} {a0 : Nat} {x1 : Int} {w : Int × St} (h : f_X1_text σ a0 x1 = some w) : Mt l yX1_text cX1_text 2 (some FieldType.int) ({ frames := 11, cells := 91, slots := 50327, locals := 200 } : Room) D sz σ [.ref a0, iv (x1)] (.returned (some (iv w.1))) (w.2) 86 40302 := by
  refine Mt.of (by decide +kernel) (Nat.le_of_ble_eq_true rfl) ?_
  intro Γ X hr hnl hini hnoh
  have X : Cx Γ cX1_text "DayBoy" _ := X
  have hL : ∀ i, i < 2 → i < nLc Γ := fun i q => by rw [hnl]; exact q
  show V Γ σ 0 0 0 [(0, .ref (a0)), (1, iv (x1))] []
  unfold f_X1_text at h
  obtain ⟨ho0, h⟩ := cO_some h
  have J39 : ∀ (σ_j39 : St), f_X1_text_j39 (a0) (x1) σ_j39 = some w → V Γ σ_j39 0 0 39 [(0, .ref (a0)), (1, iv (x1))] [] := by
    intro σ_j39 h
    unfold f_X1_text_j39 at h
    refine r_aload_n X 0 dX1_text_39 rfl rfl ?_
    refine r_iload_n X 1 dX1_text_40 rfl rfl ?_
    obtain ⟨ho2, h⟩ := cO_some h
    obtain ⟨r3, σ4, h1, h⟩ := bd2_some h
    refine r_cVW (Wd := 0) X (fun l D sz => w_X1_fault l D sz h1) ho2.1 rfl q408 q409 q718 q104 q410 hy_X1_fault rfl dX1_text_41 rfl rfl (Nat.le_of_ble_eq_true rfl) ⟨Nat.le_of_ble_eq_true rfl, Nat.le_of_ble_eq_true rfl⟩ ⟨Nat.le_of_ble_eq_true rfl, Nat.le_of_ble_eq_true rfl⟩ ?_
    refine r_iconst X dX1_text_44 ?_
    refine r_icmp_eq (tgt := 50) X dX1_text_45 (by decide) h (fun c5 h => ?_) (fun c5 h => ?_)
    · refine r_aload_n X 0 dX1_text_50 rfl rfl ?_
      refine r_iconst X dX1_text_51 ?_
      obtain ⟨ho6, h⟩ := cO_some h
      refine r_putI (kf := 1) X ho6.1 rfl (by decide) rfl rfl (Or.inl q305) dX1_text_52 rfl ?_
      refine r_let h (fun σ7 eσ7 h => ?_)
      refine r_iload_n X 1 dX1_text_55 rfl rfl ?_
      refine r_iconst X dX1_text_56 ?_
      refine r_icmp_ne (tgt := 92) X dX1_text_57 (by decide) h (fun c8 h => ?_) (fun c8 h => ?_)
      · refine r_aload_n X 0 dX1_text_60 rfl rfl ?_
        refine r_aload_n X 0 dX1_text_61 rfl rfl ?_
        have hk9 : oc σ7 (a0) 0 := by rw [eσ7]; exact ho6
        refine r_getI (kf := 11) X hk9.1 rfl (by decide) rfl (Or.inl q318) dX1_text_62 ?_
        refine r_putI (kf := 10) X hk9.1 rfl (by decide) rfl rfl (Or.inl q317) dX1_text_65 rfl ?_
        refine r_let h (fun σ10 eσ10 h => ?_)
        refine r_aload_n X 0 dX1_text_68 rfl rfl ?_
        have hk11 : oc σ10 (a0) 0 := by rw [eσ10]; exact hk9
        refine r_getA (kf := 8) X hk11.1 rfl (by decide) (by decide) (Or.inl q314) dX1_text_69 ?_
        refine r_iconst X dX1_text_72 ?_
        refine r_aload_n X 0 dX1_text_73 rfl rfl ?_
        refine r_getA (kf := 9) X hk11.1 rfl (by decide) (by decide) (Or.inl q316) dX1_text_74 ?_
        refine r_iconst X dX1_text_77 ?_
        refine r_iconst X dX1_text_78 ?_
        refine r_aload_n X 0 dX1_text_79 rfl rfl ?_
        refine r_getI (kf := 10) X hk11.1 rfl (by decide) rfl (Or.inl q317) dX1_text_80 ?_
        refine r_imul X dX1_text_83 ?_
        refine r_copy (N := 480) X hk11.1 (hk11.2 8 (by decide)) (hk11.2 9 (by decide)) rfl rfl rfl rfl rfl rfl (by decide) q719 q721 q720 q122 dX1_text_84 h (Nat.le_of_ble_eq_true rfl) (by decide +kernel) (fun h => ?_)
        refine r_let h (fun σ12 eσ12 h => ?_)
        refine r_aload_n X 0 dX1_text_87 rfl rfl ?_
        have hk13 : oc σ12 (a0) 0 := by rw [eσ12]; exact hk11
        refine r_getI (kf := 10) X hk13.1 rfl (by decide) rfl (Or.inl q317) dX1_text_88 ?_
        cases h
        exact V.widen (Nat.le_of_ble_eq_true rfl) (Nat.le_of_ble_eq_true rfl) <| r_iret X hr dX1_text_91
      · refine r_iload_n X 1 dX1_text_92 rfl rfl ?_
        refine r_if_ne (tgt := 137) X dX1_text_93 (by decide) h (fun c14 h => ?_) (fun c14 h => ?_)
        · refine r_aload_n X 0 dX1_text_96 rfl rfl ?_
          have hk15 : oc σ7 (a0) 0 := by rw [eσ7]; exact ho6
          refine r_getA (kf := 4) X hk15.1 rfl (by decide) (by decide) (Or.inl q310) dX1_text_97 ?_
          refine r_aload_n X 0 dX1_text_100 rfl rfl ?_
          refine r_getI (kf := 6) X hk15.1 rfl (by decide) rfl (Or.inl q312) dX1_text_101 ?_
          refine r_aload_n X 0 dX1_text_104 rfl rfl ?_
          refine r_getP (kf := 2) X hk15.1 rfl (by decide) rfl (Or.inl q306) dX1_text_105 h (fun b16 h => ?_)
          obtain ⟨ho17, h⟩ := cO_some h
          refine r_aast X hk15.1 (hk15.2 4 (by decide)) rfl rfl (by decide) ho17.1 rfl rfl (by decide) dX1_text_108 h (fun h => ?_)
          refine r_let h (fun σ18 eσ18 h => ?_)
          refine r_aload_n X 0 dX1_text_109 rfl rfl ?_
          refine r_new (c := 1) (N := 2) X rfl rfl (by decide) q135 q136 q105 dX1_text_110 (by decide) (by decide) ?_
          refine r_let h (fun σ19 eσ19 h => ?_)
          have hk20 : cL σ19 (nX (σ18)) = some 1 := by rw [eσ19, cL_nO, if_pos rfl]
          refine r_dup X dX1_text_113 rfl ?_
          obtain ⟨σ22, h21, h⟩ := bd_some h
          refine r_cI (Wd := 2) X (fun l D sz => w_X2_init l D sz h21) rfl rfl q138 q137 q105 q139 hy_X2_init rfl dX1_text_114 rfl rfl (Nat.le_of_ble_eq_true rfl) ⟨Nat.le_of_ble_eq_true rfl, Nat.le_of_ble_eq_true rfl⟩ ⟨Nat.le_of_ble_eq_true rfl, Nat.le_of_ble_eq_true rfl⟩ ?_
          obtain ⟨ho23, h⟩ := cO_some h
          refine r_putP (kf := 2) X ho23.1 rfl (by decide) rfl rfl (Or.inl q306) dX1_text_117 rfl ?_
          refine r_let h (fun σ24 eσ24 h => ?_)
          refine r_aload_n X 0 dX1_text_120 rfl rfl ?_
          refine r_dup X dX1_text_121 rfl ?_
          have hk25 : oc σ24 (a0) 0 := by rw [eσ24]; exact ho23
          refine r_getI (kf := 6) X hk25.1 rfl (by decide) rfl (Or.inl q312) dX1_text_122 ?_
          refine r_iconst X dX1_text_125 ?_
          refine r_iadd X dX1_text_126 ?_
          refine r_putI (kf := 6) X hk25.1 rfl (by decide) rfl rfl (Or.inl q312) dX1_text_127 rfl ?_
          refine r_let h (fun σ26 eσ26 h => ?_)
          refine r_aload_n X 0 dX1_text_130 rfl rfl ?_
          have hk27 : oc σ26 (a0) 0 := by rw [eσ26]; exact hk25
          refine r_getI (kf := 6) X hk27.1 rfl (by decide) rfl (Or.inl q312) dX1_text_131 ?_
          refine r_iconst X dX1_text_134 ?_
          refine r_isub X dX1_text_135 ?_
          cases h
          exact r_iret X hr dX1_text_136
        · refine r_aload_n X 0 dX1_text_137 rfl rfl ?_
          have hk28 : oc σ7 (a0) 0 := by rw [eσ7]; exact ho6
          refine r_getA (kf := 5) X hk28.1 rfl (by decide) (by decide) (Or.inl q311) dX1_text_138 ?_
          refine r_aload_n X 0 dX1_text_141 rfl rfl ?_
          refine r_getI (kf := 7) X hk28.1 rfl (by decide) rfl (Or.inl q313) dX1_text_142 ?_
          refine r_aload_n X 0 dX1_text_145 rfl rfl ?_
          refine r_getP (kf := 3) X hk28.1 rfl (by decide) rfl (Or.inl q308) dX1_text_146 h (fun b29 h => ?_)
          obtain ⟨ho30, h⟩ := cO_some h
          refine r_aast X hk28.1 (hk28.2 5 (by decide)) rfl rfl (by decide) ho30.1 rfl rfl (by decide) dX1_text_149 h (fun h => ?_)
          refine r_let h (fun σ31 eσ31 h => ?_)
          refine r_aload_n X 0 dX1_text_150 rfl rfl ?_
          have hk32 : oc σ31 (a0) 0 := by rw [eσ31]; exact hk28
          refine r_getP (kf := 3) X hk32.1 rfl (by decide) rfl (Or.inl q308) dX1_text_151 h (fun b33 h => ?_)
          obtain ⟨ho35, h⟩ := cO_some h
          obtain ⟨σ36, h34, h⟩ := bd_some h
          refine r_cV (Wd := 0) X (fun l D sz => w_X5_learn l D sz h34) ho35.1 rfl q723 q724 q722 q108 q725 hy_X5_learn rfl dX1_text_154 rfl rfl (Nat.le_of_ble_eq_true rfl) ⟨Nat.le_of_ble_eq_true rfl, Nat.le_of_ble_eq_true rfl⟩ ⟨Nat.le_of_ble_eq_true rfl, Nat.le_of_ble_eq_true rfl⟩ ?_
          refine r_aload_n X 0 dX1_text_157 rfl rfl ?_
          refine r_new (c := 4) (N := 22) X rfl rfl (by decide) q197 q198 q108 dX1_text_158 (by decide) (by decide) ?_
          refine r_let h (fun σ37 eσ37 h => ?_)
          have hk38 : cL σ37 (nX (σ36)) = some 4 := by rw [eσ37, cL_nO, if_pos rfl]
          refine r_dup X dX1_text_161 rfl ?_
          obtain ⟨σ40, h39, h⟩ := bd_some h
          refine r_cIN (Wd := 2) X (fun l D sz => w_X5_init l D sz h39) rfl rfl q200 q199 q108 q201 hy_X5_init rfl dX1_text_162 rfl rfl (Nat.le_of_ble_eq_true rfl) ⟨Nat.le_of_ble_eq_true rfl, Nat.le_of_ble_eq_true rfl⟩ ⟨Nat.le_of_ble_eq_true rfl, Nat.le_of_ble_eq_true rfl⟩ ?_
          obtain ⟨ho41, h⟩ := cO_some h
          refine r_putP (kf := 3) X ho41.1 rfl (by decide) rfl rfl (Or.inl q308) dX1_text_165 rfl ?_
          refine r_let h (fun σ42 eσ42 h => ?_)
          refine r_aload_n X 0 dX1_text_168 rfl rfl ?_
          refine r_dup X dX1_text_169 rfl ?_
          have hk43 : oc σ42 (a0) 0 := by rw [eσ42]; exact ho41
          refine r_getI (kf := 7) X hk43.1 rfl (by decide) rfl (Or.inl q313) dX1_text_170 ?_
          refine r_iconst X dX1_text_173 ?_
          refine r_iadd X dX1_text_174 ?_
          refine r_putI (kf := 7) X hk43.1 rfl (by decide) rfl rfl (Or.inl q313) dX1_text_175 rfl ?_
          refine r_let h (fun σ44 eσ44 h => ?_)
          refine r_aload_n X 0 dX1_text_178 rfl rfl ?_
          have hk45 : oc σ44 (a0) 0 := by rw [eσ44]; exact hk43
          refine r_getI (kf := 7) X hk45.1 rfl (by decide) rfl (Or.inl q313) dX1_text_179 ?_
          refine r_iconst X dX1_text_182 ?_
          refine r_isub X dX1_text_183 ?_
          cases h
          exact V.widen (Nat.le_of_ble_eq_true rfl) (Nat.le_of_ble_eq_true rfl) <| r_iret X hr dX1_text_184
    · refine r_iconst X dX1_text_48 ?_
      cases h
      exact V.widen (Nat.le_of_ble_eq_true rfl) (Nat.le_of_ble_eq_true rfl) <| r_iret X hr dX1_text_49
  have J25 : ∀ (σ_j25 : St), f_X1_text_j25 (a0) (x1) σ_j25 = some w → V Γ σ_j25 0 0 25 [(0, .ref (a0)), (1, iv (x1))] [] := by
    intro σ_j25 h
    unfold f_X1_text_j25 at h
    refine r_iload_n X 1 dX1_text_25 rfl rfl ?_
    refine r_iconst X dX1_text_26 ?_
    refine r_icmp_ne (tgt := 39) X dX1_text_27 (by decide) h (fun c46 h => ?_) (fun c46 h => ?_)
    · refine r_aload_n X 0 dX1_text_30 rfl rfl ?_
      obtain ⟨ho47, h⟩ := cO_some h
      refine r_getI (kf := 7) X ho47.1 rfl (by decide) rfl (Or.inl q313) dX1_text_31 ?_
      refine r_bipush X dX1_text_34 (by decide) ?_
      refine r_icmp_eq (tgt := 48) X dX1_text_36 (by decide) h (fun c48 h => ?_) (fun c48 h => ?_)
      · refine r_iconst X dX1_text_48 ?_
        cases h
        exact V.widen (Nat.le_of_ble_eq_true rfl) (Nat.le_of_ble_eq_true rfl) <| r_iret X hr dX1_text_49
      · exact V.sub [0, 1] rfl (J39 (σ_j25) h)
    · exact V.sub [0, 1] rfl (J39 (σ_j25) h)
  refine r_iload_n X 1 dX1_text_0 rfl rfl ?_
  obtain ⟨c49, h⟩ := ck_some h
  refine r_i2l X dX1_text_1 c49 ?_
  refine r_lconst (y := 0) X dX1_text_2 rfl ?_
  refine r_ldc2 (z := 2) X q412 dX1_text_3 rfl ?_
  obtain ⟨r51, h50, h⟩ := bd_some h
  refine r_cS (Wd := 0) X (fun l D sz => w_X1_isIn l D sz h50) q414 q413 q104 q415 hy_X1_isIn rfl dX1_text_6 rfl rfl (Nat.le_of_ble_eq_true rfl) ⟨Nat.le_of_ble_eq_true rfl, Nat.le_of_ble_eq_true rfl⟩ ⟨Nat.le_of_ble_eq_true rfl, Nat.le_of_ble_eq_true rfl⟩ ?_
  refine r_if_eq (tgt := 48) X dX1_text_9 (by decide) h (fun c52 h => ?_) (fun c52 h => ?_)
  · refine r_iconst X dX1_text_48 ?_
    cases h
    exact V.widen (Nat.le_of_ble_eq_true rfl) (Nat.le_of_ble_eq_true rfl) <| r_iret X hr dX1_text_49
  · refine r_iload_n X 1 dX1_text_12 rfl rfl ?_
    refine r_if_ne (tgt := 25) X dX1_text_13 (by decide) h (fun c53 h => ?_) (fun c53 h => ?_)
    · refine r_aload_n X 0 dX1_text_16 rfl rfl ?_
      refine r_getI (kf := 6) X ho0.1 rfl (by decide) rfl (Or.inl q312) dX1_text_17 ?_
      refine r_bipush X dX1_text_20 (by decide) ?_
      refine r_icmp_eq (tgt := 48) X dX1_text_22 (by decide) h (fun c54 h => ?_) (fun c54 h => ?_)
      · refine r_iconst X dX1_text_48 ?_
        cases h
        exact V.widen (Nat.le_of_ble_eq_true rfl) (Nat.le_of_ble_eq_true rfl) <| r_iret X hr dX1_text_49
      · exact V.sub [0, 1] rfl (J25 (σ) h)
    · exact V.sub [0, 1] rfl (J25 (σ) h)
