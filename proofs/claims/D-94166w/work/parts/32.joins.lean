/-! Item.joins, by the class of the item (printed by gen.py) -/
set_option maxRecDepth 100000
noncomputable def f_X9_joins (σ : St) (b p : Nat) : Option St := dC σ b 8 (f_X10_joins σ b p) (dC σ b 9 (f_X11_joins σ b p) (dC σ b 10 (f_X12_joins σ b p) (dC σ b 11 (f_X13_joins σ b p) (dC σ b 12 (f_X14_joins σ b p) (none)))))
theorem hy_X9_joins : "DayBoy$Item" ≠ "java/lang/invoke/MethodHandle" ∧ "DayBoy$Item" ≠ "java/lang/invoke/VarHandle" ∧ (parseMethodDescriptor "(LDayBoy$Head;)V").map (fun d => d.parameters.length) = some 1 := by decide +kernel
theorem r_joins {Γ : Ctx} {cc : ByteArray} {own : String} {R0 : Room} {σ σ' : St} {k n pc : Nat} {lv : List (Nat × Value)} {st rest : List Value} {b p idx : Nat} (X : Cx Γ cc own R0) (h : f_X9_joins σ b p = some σ') (w1 : Cond.methodLink own idx ⟨"DayBoy$Item", "joins", "(LDayBoy$Head;)V"⟩ ∈ lw_all) (hd : decode cc pc = .ok (.invokevirtual idx, 3)) (hst : .ref p :: .ref b :: rest = st) {Wd : Nat} (hW : (rest.map fun v => v.category).sum ≤ Wd) (hrm : 0 + 1 ≤ R0.frames ∧ Wd + 11 + 2 ≤ R0.locals) (hrc : k + 0 ≤ R0.cells ∧ n + 0 ≤ R0.slots) (kk : V Γ σ' k n (pc + 3) lv rest) : V Γ σ k n pc lv st := by
  unfold f_X9_joins at h
  rcases dC_some h with ⟨hc, h⟩ | h
  · exact r_cA (Wd := Wd) X (fun l D sz => w_X10_joins l D sz h) hc rfl q705 q704 w1 q694 q693 q117 q706 (x := ⟨"DayBoy$Item", "joins", "(LDayBoy$Head;)V"⟩) hy_X9_joins rfl hd hst rfl hW ⟨by show 0 + 1 ≤ _; omega, by show Wd + (2 + 11) + 0 ≤ _; omega⟩ hrc kk
  rcases dC_some h with ⟨hc, h⟩ | h
  · exact r_cA (Wd := Wd) X (fun l D sz => w_X11_joins l D sz h) hc rfl q708 q707 w1 q694 q693 q118 q709 (x := ⟨"DayBoy$Item", "joins", "(LDayBoy$Head;)V"⟩) hy_X9_joins rfl hd hst rfl hW ⟨by show 0 + 1 ≤ _; omega, by show Wd + (2 + 11) + 0 ≤ _; omega⟩ hrc kk
  rcases dC_some h with ⟨hc, h⟩ | h
  · exact r_cA (Wd := Wd) X (fun l D sz => w_X12_joins l D sz h) hc rfl q696 q695 w1 q694 q693 q119 q697 (x := ⟨"DayBoy$Item", "joins", "(LDayBoy$Head;)V"⟩) hy_X9_joins rfl hd hst rfl hW ⟨by show 0 + 1 ≤ _; omega, by show Wd + (2 + 11) + 0 ≤ _; omega⟩ hrc kk
  rcases dC_some h with ⟨hc, h⟩ | h
  · exact r_cA (Wd := Wd) X (fun l D sz => w_X13_joins l D sz h) hc rfl q702 q701 w1 q694 q693 q120 q703 (x := ⟨"DayBoy$Item", "joins", "(LDayBoy$Head;)V"⟩) hy_X9_joins rfl hd hst rfl hW ⟨by show 0 + 1 ≤ _; omega, by show Wd + (2 + 11) + 0 ≤ _; omega⟩ hrc kk
  rcases dC_some h with ⟨hc, h⟩ | h
  · exact r_cA (Wd := Wd) X (fun l D sz => w_X14_joins l D sz h) hc rfl q699 q698 w1 q694 q693 q121 q700 (x := ⟨"DayBoy$Item", "joins", "(LDayBoy$Head;)V"⟩) hy_X9_joins rfl hd hst rfl hW ⟨by show 0 + 1 ≤ _; omega, by show Wd + (2 + 11) + 0 ≤ _; omega⟩ hrc kk
  cases h
