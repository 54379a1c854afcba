/-! the switch of the law (printed by gen.py, lawsplit.py) -/
set_option maxRecDepth 100000
theorem w_L_sw44 {Γ : Ctx} {σ : St} {k n : Nat} {lv : List (Nat × Value)} {x : Int} (X : Cx Γ cL_law "DayBoyLaw" ({ frames := 15, cells := 601024, slots := 7293034, locals := 634 } : Room)) (hx : inR x) (hc : x = 44) (kk : V Γ σ k n 2543 lv []) : V Γ σ k n 40 lv [iv x] := r_tabIn (tgt := 2543) X dL_law_40 hx 44 hc (by decide) (by decide) rfl (by decide) kk
