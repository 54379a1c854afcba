/-! THE CLASSES, their fields, and how the machine's heap holds an abstract state -/
set_option maxRecDepth 100000
def CL : List vw_C := [(RX1, TX1, 28), (RX2, TX2, 2), (RX3, TX3, 4), (RX4, TX4, 4), (RX5, TX5, 22), (RX6, TX6, 71), (RX7, TX7, 3), (RX8, TX8, 7), (RX10, TX10, 2), (RX11, TX11, 2), (RX12, TX12, 3), (RX13, TX13, 1), (RX14, TX14, 2), (RX15, TX15, 8), (RJ4, TJ4, 6)]
def TY : Nat → Nat → FieldType := fun c => match c with
  | 0 => tyX1
  | 1 => tyX2
  | 2 => tyX3
  | 3 => tyX4
  | 4 => tyX5
  | 5 => tyX6
  | 6 => tyX7
  | 7 => tyX8
  | 8 => tyX10
  | 9 => tyX11
  | 10 => tyX12
  | 11 => tyX13
  | 12 => tyX14
  | 13 => tyX15
  | _ => tyJ4
/-- the kind of a field: 0 int, 1 long, 2 reference, 3 array of ints, 4 of longs, 5 of references, 9 not told -/
def KD (c k : Nat) : Nat := if c = 14 ∨ (c = 7 ∧ k < 6) then 9 else if c = 5 ∧ k = 200 then 4 else match TY c k with
  | .int => 0
  | .long => 1
  | .object _ => 2
  | .array .long => 4
  | .array (.object _) => 5
  | .array _ => 3
  | _ => 9
def ET (c k : Nat) : FieldType := if c = 5 ∧ k = 200 then .long else match TY c k with
  | .array t => t
  | t => t
/-- lengths of the arrays -/
def LN (c k : Nat) : Nat := match c with
  | 0 => (match k with
    | 0 => 160 | 4 => 6 | 5 => 8 | 8 => 480 | 9 => 480 | 12 => 60 | 16 => 8 | 17 => 8 | 18 => 8 | 19 => 8 | 21 => 196 | 23 => 30 | 24 => 30 | _ => 0)
  | 1 => (match k with
    | 0 => 4 | _ => 0)
  | 3 => (match k with
    | 0 => 8 | 1 => 10001 | 2 => 8 | _ => 0)
  | 4 => (match k with
    | 0 => 6 | 1 => 6 | 2 => 6 | 3 => 6 | 4 => 12 | 5 => 12 | 6 => 12 | 7 => 4 | 8 => 13 | 9 => 10000 | 10 => 13 | 11 => 10000 | 12 => 10000 | _ => 0)
  | 5 => (match k with
    | 1 => 160 | 5 => 7 | 6 => 7 | 7 => 28 | 8 => 224 | 9 => 224 | 10 => 28 | 11 => 28 | 12 => 28 | 13 => 280028 | 15 => 9 | 16 => 54 | 17 => 54 | 18 => 9 | 19 => 54 | 20 => 54 | 21 => 9 | 22 => 108 | 23 => 108 | 24 => 108 | 25 => 9 | 26 => 36 | 27 => 8 | 30 => 90009 | 31 => 117 | 32 => 10001 | 33 => 10001 | 36 => 10000 | 37 => 13 | 42 => 60 | 43 => 60 | 44 => 60 | 45 => 60 | 46 => 60 | 47 => 60 | 48 => 60 | 50 => 8 | 51 => 8 | 52 => 8 | 53 => 8 | 55 => 14 | 61 => 30 | 62 => 30 | 66 => 160 | 67 => 160 | 68 => 160 | 200 => 1 | _ => 0)
  | _ => 0
/-- the array fields of a class -/
def AF (c : Nat) : List Nat := match c with
  | 0 => [0, 4, 5, 8, 9, 12, 16, 17, 18, 19, 21, 23, 24]
  | 1 => [0]
  | 3 => [0, 1, 2]
  | 4 => [0, 1, 2, 3, 4, 5, 6, 7, 8, 9, 10, 11, 12]
  | 5 => [1, 5, 6, 7, 8, 9, 10, 11, 12, 13, 15, 16, 17, 18, 19, 20, 21, 22, 23, 24, 25, 26, 27, 30, 31, 32, 33, 36, 37, 42, 43, 44, 45, 46, 47, 48, 50, 51, 52, 53, 55, 61, 62, 66, 67, 68]
  | _ => []
/-- an object of class c, whole: all its arrays are there -/
def oc (σ : St) (a c : Nat) : Prop := cL σ a = some c ∧ ∀ k ∈ AF c, (aR σ a k).isSome = true
def ocB (σ : St) (a c : Nat) : Bool := decide (cL σ a = some c) && (AF c).all (fun k => (aR σ a k).isSome)
theorem ocB_iff (σ : St) (a c : Nat) : ocB σ a c = true ↔ oc σ a c := by simp [ocB, oc]
noncomputable def cO {R : Type} (σ : St) (a c : Nat) (x : Option R) : Option R := if ocB σ a c = true then x else none
theorem cO_t {R : Type} {σ : St} {a c : Nat} {x : Option R} (h : oc σ a c) : cO σ a c x = x := if_pos ((ocB_iff σ a c).mpr h)
theorem cO_some {R : Type} {σ : St} {a c : Nat} {x : Option R} {r : R} (h : cO σ a c x = some r) : oc σ a c ∧ x = some r := by
  unfold cO at h
  split at h
  · rename_i q
    exact ⟨(ocB_iff σ a c).mp q, h⟩
  · cases h
theorem lpU_cO {S R : Type} (b : S → Option (S ⊕ R)) (σ : St) (a c : Nat) (x : Option (S ⊕ R)) : lpU b (cO σ a c x) = cO σ a c (lpU b x) := by unfold cO; split <;> rfl
/-- not null -/
def nn {R : Type} (r : Option Nat) (f : Nat → Option R) : Option R := r.bind f
theorem lpU_nn {S R : Type} (b : S → Option (S ⊕ R)) (r : Option Nat) (f : Nat → Option (S ⊕ R)) : lpU b (nn r f) = nn r (fun a => lpU b (f a)) := by cases r <;> rfl
theorem nn_some {R : Type} {r : Option Nat} {f : Nat → Option R} {x : R} (h : nn r f = some x) : ∃ a, r = some a ∧ f a = some x := bd_some h
def iv (x : Int) : Value := .int (Int32.ofInt x)
def jv (x : Int) : Value := .long (Int64.ofInt x)
abbrev DD : Type := (Nat → ClassId) × (Nat → Nat → Nat) × (FieldType → ClassId)
def FV (σ : St) (a c k : Nat) (v : Value) : Prop := match KD c k with
  | 0 => v = iv (gI σ a k 0)
  | 1 => v = jv (gJ σ a k 0)
  | 2 => v = va_rf (gP σ a k 0)
  | 3 => v = va_rf (aR σ a k)
  | 4 => v = va_rf (aR σ a k)
  | 5 => v = va_rf (aR σ a k)
  | _ => True
def AV (σ : St) (a c k : Nat) (j : Nat) : Value := match KD c k with
  | 3 => iv (gI σ a k j)
  | 4 => jv (gJ σ a k j)
  | _ => va_rf (gP σ a k j)
def ObjOK (D : DD) (σ : St) (H : Heap) (a c : Nat) : Prop := ∃ r : vw_C, CL[c]? = some r ∧ ∃ V : Nat → Value, t_OB a (D.1 c) r.2.2 (D.2.1 c) H V ∧ ∀ k, k < r.2.2 → FV σ a c k (V k)
def ArrOK (D : DD) (σ : St) (H : Heap) (a c k b : Nat) : Prop := (KD c k = 3 ∨ KD c k = 4 ∨ KD c k = 5) ∧ H[b]? = some (arrV (D.2.2 (ET c k)) (LN c k) (AV σ a c k))
def Rep (D : DD) (sz : Nat) (σ : St) (H : Heap) : Prop :=
  H.size = nX σ ∧ (∀ a c, cL σ a = some c → sz ≤ a ∧ ObjOK D σ H a c) ∧ (∀ a k b, aR σ a k = some b → sz ≤ b ∧ cL σ b = none ∧ ∃ c, cL σ a = some c ∧ ArrOK D σ H a c k b) ∧ (∀ a k b a' k', aR σ a k = some b → aR σ a' k' = some b → a = a' ∧ k = k')
/-- the array classes that occur -/
def ATS : List FieldType := [.int, .boolean, .byte, .long, .object RX3, .object RX2, .object RX5, .object RX15]
def tysOf (D : DD) : List (ClassId × FieldType) := ATS.map (fun t => (D.2.2 t, t))
/-- words that don't ride in lw_all -/
def knOK (w : Cond) : Bool := match w with
  | .fieldLinkNest .. => true
  | .methodLinkNest .. => true
  | .declares _ => true
  | .arrayOver (.object _) => true
  | .castable .. => true
  | _ => false
def KN (U : State) : Prop := ∀ w ∈ lw_tbl, knOK w = true → w.before #[] U = true
def KB (D : DD) (U : State) : Prop := va_K (D.1, D.2.1) CL (tysOf D) U ∧ KN U
theorem KN.warm {s U : State} (hW : s.WarmedH U.vm) (h : KN s) : KN U := by
  intro w hw hk
  have h1 := h w hw hk
  cases w <;> first
    | (exact va_Nw.warmF hW h1)
    | (exact va_Nw.warmM hW h1)
    | (exact va_Nw.warmD hW h1)
    | (exact va_Nw.warmC hW h1)
    | skip
  all_goals first
    | (cases hk; done)
    | skip
  rename_i ty
  cases ty <;> first
    | (exact va_AO.moved hW.alike h1)
    | (cases hk)
theorem KB.warm {D : DD} {s U : State} (hW : s.WarmedH U.vm) (h : KB D s) : KB D U := ⟨va_K.moved hW.alike h.1, h.2.warm hW⟩
theorem CL_in : ∀ (c : Nat) (r : vw_C), CL[c]? = some r → ∀ w ∈ u_ws r.1 r.2.1 r.2.2, w ∈ lw_all := by
  intro c r h
  have hc : c < 15 := (List.getElem?_eq_some_iff.mp h).1
  rcases (show c = 0 ∨ c = 1 ∨ c = 2 ∨ c = 3 ∨ c = 4 ∨ c = 5 ∨ c = 6 ∨ c = 7 ∨ c = 8 ∨ c = 9 ∨ c = 10 ∨ c = 11 ∨ c = 12 ∨ c = 13 ∨ c = 14 by omega) with rfl | rfl | rfl | rfl | rfl | rfl | rfl | rfl | rfl | rfl | rfl | rfl | rfl | rfl | rfl <;> cases h
  · exact in_X1
  · exact in_X2
  · exact in_X3
  · exact in_X4
  · exact in_X5
  · exact in_X6
  · exact in_X7
  · exact in_X8
  · exact in_X10
  · exact in_X11
  · exact in_X12
  · exact in_X13
  · exact in_X14
  · exact in_X15
  · exact in_J4
theorem CL_ty : ∀ (c : Nat) (r : vw_C), CL[c]? = some r → ∀ k, k < r.2.2 → parseFieldDescriptor (r.2.1 k).2.2.1 = some (TY c k) := by
  intro c r h
  have hc : c < 15 := (List.getElem?_eq_some_iff.mp h).1
  rcases (show c = 0 ∨ c = 1 ∨ c = 2 ∨ c = 3 ∨ c = 4 ∨ c = 5 ∨ c = 6 ∨ c = 7 ∨ c = 8 ∨ c = 9 ∨ c = 10 ∨ c = 11 ∨ c = 12 ∨ c = 13 ∨ c = 14 by omega) with rfl | rfl | rfl | rfl | rfl | rfl | rfl | rfl | rfl | rfl | rfl | rfl | rfl | rfl | rfl <;> cases h
  · exact tyX1_ok
  · exact tyX2_ok
  · exact tyX3_ok
  · exact tyX4_ok
  · exact tyX5_ok
  · exact tyX6_ok
  · exact tyX7_ok
  · exact tyX8_ok
  · exact tyX10_ok
  · exact tyX11_ok
  · exact tyX12_ok
  · exact tyX13_ok
  · exact tyX14_ok
  · exact tyX15_ok
  · exact tyJ4_ok
theorem CL_nm : ∀ (c : Nat) (r : vw_C), CL[c]? = some r → ∀ a, a < r.2.2 → ∀ b, b < r.2.2 → a ≠ b → (r.2.1 a).2.1 ≠ (r.2.1 b).2.1 := by
  intro c r h
  have hc : c < 15 := (List.getElem?_eq_some_iff.mp h).1
  rcases (show c = 0 ∨ c = 1 ∨ c = 2 ∨ c = 3 ∨ c = 4 ∨ c = 5 ∨ c = 6 ∨ c = 7 ∨ c = 8 ∨ c = 9 ∨ c = 10 ∨ c = 11 ∨ c = 12 ∨ c = 13 ∨ c = 14 by omega) with rfl | rfl | rfl | rfl | rfl | rfl | rfl | rfl | rfl | rfl | rfl | rfl | rfl | rfl | rfl <;> cases h
  · exact nmX1
  · exact nmX2
  · exact nmX3
  · exact nmX4
  · exact nmX5
  · exact nmX6
  · exact nmX7
  · exact nmX8
  · exact nmX10
  · exact nmX11
  · exact nmX12
  · exact nmX13
  · exact nmX14
  · exact nmX15
  · exact nmJ4
/-- the two statics that Throwable's constructors read -/
def ZQ (sz : Nat) (U : State) (H : Heap) : Prop := va_Zq "java/lang/Throwable" "UNASSIGNED_STACK" "[Ljava/lang/StackTraceElement;" (fun q => sz ≤ q) U H ∧ va_Zq "java/lang/Throwable" "SUPPRESSED_SENTINEL" "Ljava/util/List;" (fun q => sz ≤ q) U H
/-- Throwable lays that static -/
def LSq (n d : String) (U : State) : Prop := (Cond.laysStatic "java/lang/Throwable" n d).before #[] U = true
theorem LSq.kept {n d : String} {A : Nat → Prop} {s U : State} {H : Heap} (h : LSq n d s) (hz : va_Zq "java/lang/Throwable" n d A s s.heap) (hq : ∀ a : Nat, a < s.heap.size → ¬ A a → H[a]? = s.heap[a]?) (hU : U.heap = H) (hal : s.vm.Alike U.vm) : LSq n d U := by
  obtain ⟨c, k, i, f, a, cell, hc, hi, hst, ha, hcell, hs, hcls, hlt, hty⟩ := Cond.laysStatic_spec h
  have hA : ¬ A a := by
    rcases hz with ⟨cf, kf, fi, f', a', cell', h1, h2, h3, h4, h5, h6, h7, h8⟩ | ⟨t, cf, kf, fi, f', a', cell', h1, h2, h3, h4, h5, h6, h7, h8⟩ <;>
    · cases hi.symm.trans h1
      cases ha.symm.trans h4
      exact h8
  obtain ⟨k', hi', hek⟩ := State.fieldFound?_setVm hal hi
  have e : LSq n d (s.setVm U.vm) := Cond.laysStatic_setVm hal h
  obtain ⟨c2, k2, i2, f2, a2, cell2, q1, q2, q3, q4, q5, q6, q7, q8, q9⟩ := Cond.laysStatic_spec e
  have hc2 : s.heap[a2]? = some cell2 := q5
  have ea : a2 = a := by
    have z := q2.symm.trans hi'
    cases z
    rw [hek] at q4
    exact Option.some.inj (q4.symm.trans ha)
  subst ea
  exact Cond.laysStatic_of (s := U) q1 (by exact q2) q3 q4 (by rw [hU, hq _ (Array.getElem?_eq_some_iff.mp hcell).1 hA]; exact hc2) q6 q7 q8 q9
/-- what lies below sz: that much of the heap, and the statics -/
def SZ (sz : Nat) (U : State) : Prop := sz ≤ U.heap.size ∧ ZQ sz U U.heap ∧ LSq "UNASSIGNED_STACK" "[Ljava/lang/StackTraceElement;" U ∧ LSq "SUPPRESSED_SENTINEL" "Ljava/util/List;" U
theorem SZ.call {sz : Nat} {s U : State} {H : Heap} {locs : List Loc} (h : SZ sz s) (hS : va_S (fun q => sz ≤ q) s.heap H locs) (hU : U.heap = H) (hal : s.vm.Alike U.vm) : SZ sz U := by
  refine ⟨by rw [hU]; exact Nat.le_trans h.1 hS.1, ⟨?_, ?_⟩, h.2.2.1.kept h.2.1.1 hS.2.1 hU hal, h.2.2.2.kept h.2.1.2 hS.2.1 hU hal⟩
  · rw [hU]; exact (h.2.1.1.kept hS.2.1).moved hal
  · rw [hU]; exact (h.2.1.2.kept hS.2.1).moved hal
theorem SZ.same {sz : Nat} {s U : State} (h : SZ sz s) (hU : U.heap = s.heap) (hal : s.vm.Alike U.vm) : SZ sz U := ⟨by rw [hU]; exact h.1, ⟨by rw [hU]; exact h.2.1.1.moved hal, by rw [hU]; exact h.2.1.2.moved hal⟩, h.2.2.1.kept h.2.1.1 (fun _ _ _ => rfl) hU hal, h.2.2.2.kept h.2.1.2 (fun _ _ _ => rfl) hU hal⟩
