/-! exceptions: a method that throws, a callee that throws, a handler -/
set_option maxRecDepth 100000
/-- the exception x flies over the frame g -/
def WT (p : Program) (l : Launch) (e : Env) (R : Room) (s : State) (m : MethodId) (args : Array Value) (below : List Frame) (meth : Method) (c : Code) (H : Heap) (locs : List Loc) (k n : Nat) (Q : State → Prop) (g : JFrame) (x : Nat) : Prop :=
  ∀ T : State, T.heap = H → Stand p l e R s m args below meth c T locs k n → ∃ t, Steps p.tables e below ((T.setTop g).pushFrame (.throwing x)) t ∧ Q t
def VT (Γ : Ctx) (σ : St) (k n pc : Nat) (lv : List (Nat × Value)) (x : Nat) : Prop := match Γ with
  | (p, l, e, R, s, m, args, below, meth, c, Q, D, sz, nL) => ∀ (H : Heap) (locs : List Loc) (ls : Array Slot) (st : List Value), Rep D sz σ H → va_S (fun q => sz ≤ q) s.heap H locs → lv_has ls nL lv → WT p l e R s m args below meth c H locs k n Q (F0 m pc ls st) x
section
variable {p : Program} {l : Launch} {e : Env} {R : Room} {s : State} {m : MethodId} {args : Array Value} {below : List Frame} {meth : Method} {c : Code} {H : Heap} {locs : List Loc} {k n : Nat} {Q : State → Prop}
variable {y : MethodName} {bytes : ByteArray} {maxL : Nat} {ret : Option FieldType} {g : JFrame} {rest : List Value}
/-- behind a callee that has thrown -/
theorem IV.thr {D : DD} {sz : Nat} {σ σ' : St} {rm : Room} {kc ks : Nat} {av : List Value} {x : Nat} {ig : Instr} {Wd : Nat} (hI : IV p l e R s m args below meth c H locs k n g y av rest) (hM : Mt l y bytes maxL ret rm D sz σ av (.threw x) σ' kc ks) (hcw : Cw s args y bytes maxL ret) (hK : KB D s) (hsz : SZ sz s) (hR : Rep D sz σ H) (hS : va_S (fun q => sz ≤ q) s.heap H locs)
    (hg : g.method = m) (hsize : g.locals.size = c.maxLocals) (hW : 2 * g.monitorRoom + (rest.map fun v => v.category).sum ≤ Wd) (hdg : decode c.code g.pc = .ok (ig, 3)) (hfr : rm.frames + 1 ≤ R.frames) (hlo : Wd + (maxL + 11) + rm.locals ≤ R.locals) (hce : k + rm.cells ≤ R.cells) (hsl : n + rm.slots ≤ R.slots)
    (kk : ∀ (H1 : Heap) (locs1 : List Loc), Rep D sz σ' H1 → va_S (fun q => sz ≤ q) s.heap H1 locs1 → WT p l e R s m args below meth c H1 locs1 (k + kc) (n + ks) Q { g with stack := rest } x) : W p l e R s m args below meth c H locs k n Q g := by
  intro T hT X
  obtain ⟨mk, vm₁, hW₁, X₁, hnm, hst⟩ := hI T hT X
  have hUh : (T.setVm vm₁).heap = H := hT
  generalize T.setVm vm₁ = U at X₁ hnm hst hUh
  have hws : ∀ w ∈ ws_ y bytes maxL ret, w.before av.toArray U = true := fun w hw => pay_in hcw.1 (lw_meth hcw.2.1) w hw _ U X₁.warmed
  have hini : (Cond.initialized y.cls).before av.toArray U = true := pay_in hcw.1 (lw_good (ws := [Cond.initialized y.cls]) (fun w h => by rw [List.mem_singleton.mp h]; exact hcw.2.2)) _ List.mem_cons_self _ U X₁.warmed
  obtain ⟨methY, cY, hmY, hcY, -, hlY, -, -, -, -⟩ := Cond.code_spec hnm (hws _ List.mem_cons_self)
  obtain ⟨kY, hkY, -⟩ := className_of_methodNamed hnm
  have hinitY : kY.init = .initialized := Cond.initialized_spec (findClass_of_methodNamed hnm) hkY hini
  have hat : At U ({ g with stack := rest } : JFrame).method c below := by
    show At U g.method c below
    rw [hg]; exact X₁.here
  have happ : (headSpec (ws_ y bytes maxL ret) rm).appliesLoose y e.platform (U.calling { g with stack := rest } mk av.toArray) = true :=
    Spec.appliesLoose_calling (g := { g with stack := rest }) hat hdg hnm hkY hinitY
      (X₁.room_calling (g := { g with stack := rest }) (R' := rm) hsize hmY hcY hfr (by rw [hlY]; have hW2 : 2 * ({ g with stack := rest } : JFrame).monitorRoom + (({ g with stack := rest } : JFrame).stack.map fun v => v.category).sum ≤ Wd := hW; omega) hce hsl) (atoms_intro hws)
  obtain ⟨mid, hmid⟩ := hat.above
  have hfrs : (U.setTop { g with stack := rest }).frames = (.java { g with stack := rest } :: mid) ++ below := by rw [State.frames_setTop' _ hat.top, hmid]; rfl
  obtain ⟨o, s₂, hsteps, -, hend, hq⟩ := Steps.callFree hM p X₁.admits X₁.cas X₁.clock (acts := []) hfrs happ ⟨rfl, by show Rep D sz σ U.heap; rw [hUh]; exact hR, KB.warm (U := U.calling { g with stack := rest } mk av.toArray) X₁.warmed hK, (hsz.call (U := U) hS hUh X₁.warmed.alike).same (U := U.calling { g with stack := rest } mk av.toArray) rfl (Vm.Alike.refl _)⟩ trivial
  obtain ⟨rfl, r1, r2, L, ⟨hW₂, hsm⟩, r4⟩ := hq
  obtain ⟨e2, q2, q3, q4, q5, q6⟩ := hsm
  have e3 : s₂ = ({ (U.calling { g with stack := rest } mk av.toArray).setFrames s₂.frames with heap := s₂.heap, slotsUsed := s₂.slotsUsed } : State).setVm s₂.vm := by
    have h0 : s₂ = ({ s₂ with vm := (U.calling { g with stack := rest } mk av.toArray).vm } : State).setVm s₂.vm := rfl
    have h1 := e2
    exact h0.trans (congrArg (fun z : State => z.setVm s₂.vm) h1)
  rw [State.frames_setTop' _ hat.top] at hend
  have hf₂ : s₂.frames = .throwing x :: .java { g with stack := rest } :: U.frames.tail := hend
  have hW' : U.WarmedH s₂.vm := hW₂
  obtain ⟨g₀, hg0⟩ := Option.isSome_iff_exists.mp hat.top
  obtain ⟨rr, hrr⟩ := State.topJava?_eq_some.mp hg0
  have hs₂ : s₂ = ((({ U with heap := s₂.heap, slotsUsed := s₂.slotsUsed } : State).setVm s₂.vm).setTop { g with stack := rest }).pushFrame (.throwing x) := by
    have hr' : (({ U with heap := s₂.heap, slotsUsed := s₂.slotsUsed } : State).setVm s₂.vm).frames = .java g₀ :: rr := hrr
    refine e3.trans ?_
    rw [hf₂, State.calling_eq hat.top, State.setFrames_setFrames, State.pushFrame, State.frames_setTop _ hr', State.setTop_of_frames _ hr', State.setFrames_setFrames, hrr]
    rfl
  have hsame : U.sameButNew ({ U with heap := s₂.heap, slotsUsed := s₂.slotsUsed } : State) L kc ks := by
    refine ⟨?_, q2, q3, q4, q5, q6⟩
    obtain ⟨t, ht, -⟩ := State.frames_cons hrr
    show ({ U with heap := s₂.heap, slotsUsed := s₂.slotsUsed } : State) = { U.setFrames U.frames with heap := s₂.heap, slotsUsed := s₂.slotsUsed }
    rw [State.setFrames_self ht]
  have X' : Stand p l e R s m args below meth c (({ U with heap := s₂.heap, slotsUsed := s₂.slotsUsed } : State).setVm s₂.vm) (locs ++ L) (k + kc) (n + ks) :=
    ⟨X₁.admits, X₁.cas, X₁.clock, X₁.frames, X₁.room, X₁.hears, X₁.method, X₁.code, (X₁.here.setHeapUsed s₂.heap s₂.slotsUsed).setVm hW'.alike, X₁.tail, State.WarmedH.trans X₁.warmed hW', X₁.limits, X₁.bytes, X₁.same.trans (hsame.setVm s.vm)⟩
  have hlow : ∀ q, q < sz → s₂.heap[q]? = H[q]? := by
    intro q hq
    rw [r2 q hq]
    show U.heap[q]? = H[q]?
    rw [hUh]
  have hgrow : H.size ≤ s₂.heap.size := by
    have h1 : U.heap.size ≤ s₂.heap.size := q2
    rw [hUh] at h1
    exact h1
  obtain ⟨t2, a1, b1⟩ := kk s₂.heap (locs ++ L) r1 ⟨Nat.le_trans hS.1 hgrow, fun q q1 q2 => by rw [hlow q (by omega)]; exact hS.2.1 q q1 q2, fun q hq => by
    rcases List.mem_append.mp hq with h | h
    · exact hS.2.2 q h
    · exact r4 q h⟩ (({ U with heap := s₂.heap, slotsUsed := s₂.slotsUsed } : State).setVm s₂.vm) rfl X'
  refine ⟨t2, hst t2 (hsteps.trans ?_), b1⟩
  rw [hs₂]
  exact a1
end
section
variable {Γ : Ctx} {cc : ByteArray} {own : String} {R0 : Room} {σ : St} {k n pc : Nat} {lv lv' : List (Nat × Value)} {st rest : List Value}
theorem VT.widen {k' n' x : Nat} (h1 : k ≤ k') (h2 : n ≤ n') (h : VT Γ σ k' n' pc lv x) : VT Γ σ k n pc lv x := by
  obtain ⟨p, l, e, R, s, m, args, below, meth, c, Q, D, sz, nL⟩ := Γ
  intro H locs ls st hR hS hl T hT X
  exact h H locs ls st hR hS hl T hT (stand_widen X h1 h2)
/-- the exception leaves the method -/
theorem r_out {x : Nat} {ret : Option FieldType} (X : Cx Γ cc own R0) (hno : noH Γ) (hr : Rt Γ ret (.threw x) σ k n) : VT Γ σ k n pc lv x := by
  obtain ⟨p, l, e, R, s, m, args, below, meth, c, Q, D, sz, nL⟩ := Γ
  obtain ⟨hx, hb, hml, hown, hts, hK, hsz, hR0, hlk⟩ := X
  obtain ⟨hr1, hr2⟩ := hr
  subst hr2
  intro H locs ls st hR hS hl T hT Y
  have hno : c.exceptionTable.isEmpty = true := hno
  have h0 : c.exceptionTable.toList = [] := by
    have h0 : c.exceptionTable.size = 0 := by simpa [Array.isEmpty] using hno
    exact List.eq_nil_of_length_eq_zero (by simpa using h0)
  obtain ⟨w1, w2, w3, w4, w5⟩ := Y.leaveThrown x (g := F0 m pc ls st) rfl rfl rfl (by rw [h0]; intro z hz; cases hz) hlk
  exact ⟨_, w1, w2, w3, by show Rep D sz σ T.heap; rw [hT]; exact hR, low_kept (D := D) (t := T.setFrames (.throwing x :: below)) hsz.1 hS hT, locs, ⟨w4, w5⟩, hS.2.2⟩
/-- athrow -/
theorem r_athrow {x : Nat} (X : Cx Γ cc own R0) (hd : decode cc pc = .ok (.athrow, 1)) (kk : VT Γ σ k n pc lv x) : V Γ σ k n pc lv (.ref x :: rest) := by
  obtain ⟨p, l, e, R, s, m, args, below, meth, c, Q, D, sz, nL⟩ := Γ
  obtain ⟨hx, hb, hml, hown, hts, hK, hsz, hR0, hlk⟩ := X
  intro H locs ls hR hS hl T hT Y
  obtain ⟨t, a, b⟩ := kk H locs ls rest hR hS hl T hT Y
  refine ⟨t, ?_, b⟩
  jvm_step Y.here [hx, hb, hd, athrow.wp_sem]
  exact a
end
