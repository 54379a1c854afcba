/-! spell, further -/
set_option maxRecDepth 100000
section
variable {σ : St} {x o a b : Nat} {A : AS} {g g' c y m d v k s p f t w i n' : Int} {C C' : Cal}
theorem evB_far (h : RR x o A σ) (hd : 19000000 < d) : evB A d s = false := by
  cases e : evB A d s with
  | false => rfl
  | true =>
    obtain ⟨k, hk, e1, _⟩ := evB_e.mp e
    have := (h.2.1.2.2.2.2.2.1 k hk.1 hk.2).1
    omega
/-- the run of days from a day on -/
noncomputable def rl (A : AS) (s D : Int) : Nat :=
  haveI := Classical.propDecidable (∃ n : Nat, evB A (D + n) s = false)
  if q : ∃ n : Nat, evB A (D + n) s = false then Classical.choose (min_ex q) else 0
theorem rl_p (h : RR x o A σ) (D : Int) (hD : 0 ≤ D) : evB A (D + rl A s D) s = false ∧ (∀ j : Nat, j < rl A s D → evB A (D + j) s = true) ∧ (rl A s D : Int) ≤ 19000001 := by
  have q : ∃ n : Nat, evB A (D + n) s = false := ⟨19000001, evB_far h (by omega)⟩
  have e : rl A s D = Classical.choose (min_ex q) := by unfold rl; rw [dif_pos q]
  have sp := Classical.choose_spec (min_ex q)
  rw [← e] at sp
  refine ⟨sp.1, fun j hj => ?_, ?_⟩
  · cases c : evB A (D + j) s with
    | true => rfl
    | false => have := sp.2 j c; omega
  · have := sp.2 19000001 (evB_far h (by omega)); omega
theorem rl_0 (h : RR x o A σ) {D : Int} (hD : 0 ≤ D) (q : ¬ rl A s D = 0) : evB A D s = true := by
  have := (rl_p h (s := s) D hD).2.1 0 (by omega)
  rw [show D + ((0 : Nat) : Int) = D by omega] at this
  exact this
def mxF (f : Int → Int) (b k : Int) : Int := max b (f k)
theorem mx_le (f : Int → Int) (B : Int) : ∀ n : Nat, fo (mxF f) 0 0 n ≤ B ↔ 0 ≤ B ∧ ∀ k : Int, 0 ≤ k → k < n → f k ≤ B
  | 0 => by
    show (0 : Int) ≤ B ↔ _
    exact ⟨fun q => ⟨q, fun k _ _ => by omega⟩, fun q => q.1⟩
  | n + 1 => by
    have ih := mx_le f B n
    rw [fo_s]
    unfold mxF at ih ⊢
    rw [show (0 : Int) + n = n by omega]
    constructor
    · intro q
      have r := ih.mp (by omega)
      refine ⟨r.1, fun k k1 k2 => ?_⟩
      by_cases c : k = n
      · rw [c]; omega
      · exact r.2 k k1 (by omega)
    · intro q
      have r := ih.mpr ⟨q.1, fun k k1 k2 => q.2 k k1 (by omega)⟩
      have := q.2 n (by omega) (by omega)
      omega
theorem mx_0 (f : Int → Int) : ∀ n : Nat, 0 ≤ fo (mxF f) 0 0 n
  | 0 => by simp [fo]
  | n + 1 => by
    have := mx_0 f n
    rw [fo_s]; unfold mxF at this ⊢; omega
theorem mx_ge (f : Int → Int) {n : Nat} {k : Int} (k1 : 0 ≤ k) (k2 : k < n) : f k ≤ fo (mxF f) 0 0 n := ((mx_le f _ n).mp (Int.le_refl _)).2 k k1 k2
theorem E_spell (h : RR x o A σ) (hs : inR s) : T (f_X1_spell σ x s) (fun r => f_X6_spell σ o s = some r ∧ inR r) := by
  have n := R_n h
  have m63 : gI σ o 63 0 = (aV A 25 0) := h.2.2.2.1.2.2.2.2.2.2.1
  unfold f_X1_spell f_X6_spell
  rw [cO_t (R_x h), cO_t (R_o h), X6_isB hs (by omega) (by omega)]
  simp only [T_bind, T_some, T_cEq, bI_R, true_and, bI_0, Bool.not_eq_false, T_ck, X1_isB (by omega : inL s) (by omega : inL 0) (by omega : inL 3), bd_s]
  refine ⟨hs, fun e => ⟨by rw [e, cEq_bf], by omega⟩, fun e => ?_⟩
  have sb := isB_t.mp e
  rw [e, cEq_bt]
  have vb : ∀ f : Int → Int, (∀ k, 0 ≤ k → k < (aV A 25 0) → f k ≤ 19000001) → ∀ n : Nat, (n : Int) ≤ (aV A 25 0) → fo (mxF f) 0 0 n ≤ 19000001 := fun f hf n hn => (mx_le f _ n).mpr ⟨by omega, fun k k1 k2 => hf k k1 (by omega)⟩
  have rb : ∀ k, 0 ≤ k → k < (aV A 25 0) → ((rl A s (aV A 23 k) : Nat) : Int) ≤ 19000001 := fun k k1 k2 => (rl_p h (s := s) (aV A 23 k) (by have := (h.2.1.2.2.2.2.2.1 k k1 k2).1; omega)).2.2
  have vx : T (lp (fun q => f_X1_spell_b18 σ x s q.1 q.2) (0, 0)) (fun r => r = fo (mxF (fun k => (rl A s (aV A 23 k) : Int))) 0 0 ((aV A 25 0)).toNat) := by
    refine T_lp (fun t => (0 ≤ t.2 ∧ t.2 ≤ (aV A 25 0)) ∧ t.1 = fo (mxF (fun k => (rl A s (aV A 23 k) : Int))) 0 0 (t.2 - 0).toNat) (fun t => ((aV A 25 0) - t.2).toNat) ?_ ⟨by dsimp only; omega, rfl⟩
    intro ⟨v, k⟩ ⟨k1, ev⟩
    dsimp only at k1 ev
    have st := fo_at (mxF (fun k => (rl A s (aV A 23 k) : Int))) 0 k1.1
    unfold f_X1_spell_b18
    rw [Rv25 h]
    simp only [T_cLt]
    refine ⟨by omega, fun z => ?_, fun z => ?_⟩
    · have db := (h.2.1.2.2.2.2.2.1 k k1.1 z).1
      obtain ⟨r1, r2, r3⟩ := rl_p h (s := s) (aV A 23 k) db.1
      have v0 := mx_0 (fun k => (rl A s (aV A 23 k) : Int)) (k - 0).toNat
      have v1 := vb (fun k => (rl A s (aV A 23 k) : Int)) rb (k - 0).toNat (by omega)
      rw [← ev] at v0 v1
      refine T_lp (fun u : Int => 0 ≤ u ∧ u ≤ (rl A s (aV A 23 k) : Int)) (fun u : Int => ((rl A s (aV A 23 k) : Int) - u).toNat) ?_ ⟨Int.le_refl 0, Int.natCast_nonneg _⟩
      intro u ⟨u1, u2⟩
      unfold f_X1_spell_b29
      rw [Rv23 h, J3_max (by omega) (by omega)]
      simp only [T_ck, T_bind, X1_holds h (by omega : inR (aV A 23 k + u)) hs, T_some, T_cEq, bI_R, true_and, bI_0, Bool.not_eq_false, T_ex, Sum.elim_inl, Sum.elim_inr]
      refine ⟨by omega, fun z1 => ⟨⟨by omega, ?_⟩, by omega⟩, fun z1 => ⟨⟨by omega, ?_⟩, ?_⟩⟩
      · have eu : u = rl A s (aV A 23 k) := by
          by_cases c : u = rl A s (aV A 23 k)
          · exact c
          · have := r2 u.toNat (by omega)
            rw [show ((u.toNat : Nat) : Int) = u by omega, z1] at this; cases this
        rw [st, ← ev, eu]; rfl
      · by_cases c : u = rl A s (aV A 23 k)
        · rw [c, r1] at z1; cases z1
        · omega
      · by_cases c : u = rl A s (aV A 23 k)
        · rw [c, r1] at z1; cases z1
        · omega
    · simp only [T_some, T_none, T_ck, T_cLt, T_cEq, T_jLt, T_jEq, T_bind, T_bd2, T_wS, T_cO, T_nnS, T_cNullN, T_cNullS, T_bT1, T_bT2, T_ex, T_ite, T_dC, Sum.elim_inl, Sum.elim_inr]
      rw [ev]; congr 1; omega
  have vm : lp (fun q => f_X6_spell_b15 σ o s q.1 q.2) (0, 0) = some (fo (mxF (fun k => if aV A 24 k = s then (rl A s (aV A 23 k) : Int) else 0)) 0 0 ((aV A 25 0)).toNat) := by
    refine T_eq.mp (T_lp (fun t => (0 ≤ t.2 ∧ t.2 ≤ (aV A 25 0)) ∧ t.1 = fo (mxF (fun k => if aV A 24 k = s then (rl A s (aV A 23 k) : Int) else 0)) 0 0 (t.2 - 0).toNat) (fun t => ((aV A 25 0) - t.2).toNat) ?_ ⟨by dsimp only; omega, rfl⟩)
    intro ⟨v, k⟩ ⟨k1, ev⟩
    dsimp only at k1 ev
    have st := fo_at (mxF (fun k => if aV A 24 k = s then (rl A s (aV A 23 k) : Int) else 0)) 0 k1.1
    unfold f_X6_spell_b15
    rw [m63]
    simp only [T_cLt]
    refine ⟨by omega, fun z => ?_, fun z => ?_⟩
    · have db := h.2.1.2.2.2.2.2.1 k k1.1 z
      obtain ⟨w1, w2⟩ := h.2.2.2.2.2.2.2.2.2.1 k k1.1 z
      obtain ⟨r1, r2, r3⟩ := rl_p h (s := s) (aV A 23 k) db.1.1
      have v0 := mx_0 (fun k => if aV A 24 k = s then (rl A s (aV A 23 k) : Int) else 0) (k - 0).toNat
      have v1 := vb (fun k => if aV A 24 k = s then (rl A s (aV A 23 k) : Int) else 0) (fun k k1 k2 => by
        show (if aV A 24 k = s then (rl A s (aV A 23 k) : Int) else 0) ≤ 19000001
        split
        · exact rb k k1 k2
        · omega) (k - 0).toNat (by omega)
      rw [← ev] at v0 v1
      refine T_lp (fun u => 0 ≤ u ∧ u ≤ (if aV A 24 k = s then (rl A s (aV A 23 k) : Int) else 0)) (fun u => ((rl A s (aV A 23 k) : Int) - u).toNat) ?_ ⟨by omega, by split <;> omega⟩
      intro u ⟨u1, u2⟩
      have u3 : u ≤ 19000001 := by split at u2 <;> omega
      unfold f_X6_spell_b26 f_X6_spell_j59
      rw [w1, w2, J3_max (by omega) (by omega)]
      simp only [T_ck, T_cEq]
      refine ⟨by omega, by omega, fun zs => ⟨by omega, ?_⟩, fun zs => ?_⟩
      · rw [if_pos zs] at u2
        simp only [T_bind, X6_hasEvent h (by omega : inR (aV A 23 k + u)) hs, T_some, T_cEq, bI_R, true_and, bI_0, Bool.not_eq_false, T_ex, Sum.elim_inl, Sum.elim_inr]
        refine ⟨fun z1 => ⟨⟨by omega, ?_⟩, by omega⟩, fun z1 => ⟨⟨by omega, ?_⟩, ?_⟩⟩
        · have eu : u = rl A s (aV A 23 k) := by
            by_cases c : u = rl A s (aV A 23 k)
            · exact c
            · have := r2 u.toNat (by omega)
              rw [show ((u.toNat : Nat) : Int) = u by omega, z1] at this; cases this
          rw [st, ← ev, eu]; unfold mxF; simp only [if_pos zs]
        · rw [if_pos zs]
          by_cases c : u = rl A s (aV A 23 k)
          · rw [c, r1] at z1; cases z1
          · omega
        · by_cases c : u = rl A s (aV A 23 k)
          · rw [c, r1] at z1; cases z1
          · omega
      · rw [if_neg zs] at u2
        have u0 : u = 0 := by omega
        simp only [T_bind, T_some, T_ex, Sum.elim_inl, Sum.elim_inr]
        refine ⟨⟨by omega, ?_⟩, by omega⟩
        rw [st, ← ev, u0]; unfold mxF; simp only [if_neg zs]
    · simp only [T_some, T_none, T_ck, T_cLt, T_cEq, T_jLt, T_jEq, T_bind, T_bd2, T_wS, T_cO, T_nnS, T_cNullN, T_cNullS, T_bT1, T_bT2, T_ex, T_ite, T_dC, Sum.elim_inl, Sum.elim_inr]
      rw [ev]; congr 1; omega
  have eq : fo (mxF (fun k => (rl A s (aV A 23 k) : Int))) 0 0 ((aV A 25 0)).toNat = fo (mxF (fun k => if aV A 24 k = s then (rl A s (aV A 23 k) : Int) else 0)) 0 0 ((aV A 25 0)).toNat := by
    apply Int.le_antisymm
    · rw [mx_le]
      refine ⟨mx_0 _ _, fun k k1 k2 => ?_⟩
      show (rl A s (aV A 23 k) : Int) ≤ _
      by_cases c : rl A s (aV A 23 k) = 0
      · rw [c]; have := mx_0 (fun k => if aV A 24 k = s then (rl A s (aV A 23 k) : Int) else 0) ((aV A 25 0)).toNat; omega
      · have db := (h.2.1.2.2.2.2.2.1 k k1 (by omega)).1
        obtain ⟨k', hk', e1, e2⟩ := evB_e.mp (rl_0 h db.1 c)
        have := mx_ge (fun k => if aV A 24 k = s then (rl A s (aV A 23 k) : Int) else 0) (n := ((aV A 25 0)).toNat) hk'.1 (by omega)
        simp only [if_pos e2, e1] at this
        exact this
    · rw [mx_le]
      refine ⟨mx_0 _ _, fun k k1 k2 => ?_⟩
      have := mx_ge (fun k => (rl A s (aV A 23 k) : Int)) (n := ((aV A 25 0)).toNat) k1 k2
      have m0 := mx_0 (fun k => (rl A s (aV A 23 k) : Int)) ((aV A 25 0)).toNat
      show (if aV A 24 k = s then (rl A s (aV A 23 k) : Int) else 0) ≤ _
      split
      · exact this
      · exact m0
  refine T_mono vx (fun r hr => ?_)
  have v0 := mx_0 (fun k => (rl A s (aV A 23 k) : Int)) ((aV A 25 0)).toNat
  have v1 := vb (fun k => (rl A s (aV A 23 k) : Int)) rb ((aV A 25 0)).toNat (by omega)
  rw [vm, hr, ← eq]
  exact ⟨rfl, by constructor <;> omega⟩
/-- further -/
def fuF (A : AS) (now i j : Int) : Int := if ((aQ A 2 j - now).natAbs : Int) < ((aQ A 2 i - now).natAbs : Int) then sgn (aQ A 7 i) (aQ A 7 j) else 0
theorem sgn_s (p q : Int) : sgn q p = - sgn p q := by unfold sgn; split <;> split <;> (try split) <;> (try split) <;> omega
theorem fuG (A : AS) (now a b : Int) : sgn ((aQ A 2 a - now).natAbs : Int) ((aQ A 2 b - now).natAbs : Int) * sgn (aQ A 7 a) (aQ A 7 b) = fuF A now a b + fuF A now b a := by
  unfold fuF
  rw [sgn_s (aQ A 7 a) (aQ A 7 b)]
  generalize sgn (aQ A 7 a) (aQ A 7 b) = S
  generalize ((aQ A 2 a - now).natAbs : Int) = P
  generalize ((aQ A 2 b - now).natAbs : Int) = Q
  unfold sgn
  by_cases c1 : P < Q
  · rw [if_pos c1, if_neg (by omega), if_pos c1]; omega
  · by_cases c2 : P = Q
    · rw [if_neg c1, if_pos c2, if_neg (by omega), if_neg (by omega)]; simp
    · rw [if_neg c1, if_neg c2, if_pos (by omega), if_neg (by omega)]; simp
theorem sm_add (f g : Int → Int) (lo : Int) : ∀ n : Nat, sm (fun k => f k + g k) lo n = sm f lo n + sm g lo n
  | 0 => rfl
  | n + 1 => by
    show sm (fun k => f k + g k) lo n + (f (lo + n) + g (lo + n)) = (sm f lo n + f (lo + n)) + (sm g lo n + g (lo + n))
    rw [sm_add f g lo n]; omega
theorem dbl (F : Int → Int → Int) (h0 : ∀ i, F i i = 0) : ∀ n : Nat, sm (fun i => sm (fun j => F i j) 0 n) 0 n = sm (fun a => sm (fun b => F a b + F b a) 0 a.toNat) 0 n
  | 0 => rfl
  | n + 1 => by
    have ih := dbl F h0 n
    show sm (fun i => sm (fun j => F i j) 0 (n + 1)) 0 n + sm (fun j => F (0 + n) j) 0 (n + 1) = sm (fun a => sm (fun b => F a b + F b a) 0 a.toNat) 0 n + sm (fun b => F (0 + n) b + F b (0 + n)) 0 (0 + (n : Int)).toNat
    have e1 : sm (fun i => sm (fun j => F i j) 0 (n + 1)) 0 n = sm (fun i => sm (fun j => F i j) 0 n) 0 n + sm (fun i => F i (0 + n)) 0 n := sm_add _ _ 0 n
    have e2 : sm (fun j => F (0 + n) j) 0 (n + 1) = sm (fun j => F (0 + n) j) 0 n + F (0 + n) (0 + n) := rfl
    have e3 : (0 + (n : Int)).toNat = n := by omega
    rw [e1, e2, e3, h0, ih, sm_add]
    show _ + sm (fun i => F i (0 + n)) 0 n + (sm (F (0 + n)) 0 n + 0) = _ + (sm (F (0 + n)) 0 n + sm (fun i => F i (0 + n)) 0 n)
    omega
theorem fuF_b {now j : Int} : -1 ≤ fuF A now i j ∧ fuF A now i j ≤ 1 := by
  unfold fuF
  split
  · exact sgn_b
  · omega
theorem sm_l {g : Int → Int} {lo c : Int} (hg : ∀ k, -c ≤ g k) : ∀ n : Nat, -(c * n) ≤ sm g lo n
  | 0 => by simp [sm]
  | n + 1 => by
    have a := sm_l (lo := lo) hg n
    have b := hg (lo + n)
    show _ ≤ sm g lo n + g (lo + n)
    have e : c * ((n + 1 : Nat) : Int) = c * n + c := by rw [Int.natCast_add, Int.mul_add]; simp
    rw [e]; omega
theorem E_further {now : Int} (h : RR x o A σ) (hn : inR now) : T (f_X1_further σ x now) (fun r => f_X6_further σ o now = some r ∧ inR r) := by
  have n := R_n h
  unfold f_X1_further f_X6_further
  rw [cO_t (R_x h), cO_t (R_o h), X6_isB hn (by omega) (by omega), X1_isYear hn]
  simp only [T_bind, T_some, T_cEq, bI_R, true_and, bI_0, Bool.not_eq_false, bd_s]
  refine ⟨fun e => ⟨by rw [e, cEq_bf], by omega⟩, fun e => ?_⟩
  have nb := isB_t.mp e
  rw [e, cEq_bt]
  have yb : ∀ k, 0 ≤ k → k < (aV A 13 0) → (1 ≤ aQ A 2 k ∧ aQ A 2 k ≤ 9999) := fun k k1 k2 => (hasC_i (R_qa h k1 k2).1.2).1
  have vx : T (lp (fun q => f_X1_further_b15 σ x now q.1 q.2) (0, 0)) (fun r => r = sm (fun i => sm (fun j => fuF A now i j) 0 ((aV A 13 0)).toNat) 0 ((aV A 13 0)).toNat) := by
    refine T_lp (fun t => (0 ≤ t.2 ∧ t.2 ≤ (aV A 13 0)) ∧ t.1 = sm (fun i => sm (fun j => fuF A now i j) 0 ((aV A 13 0)).toNat) 0 (t.2 - 0).toNat) (fun t => ((aV A 13 0) - t.2).toNat) ?_ ⟨by dsimp only; omega, rfl⟩
    intro ⟨v, i⟩ ⟨i1, ev⟩
    dsimp only at i1 ev
    have st := sm_at (fun i => sm (fun j => fuF A now i j) 0 ((aV A 13 0)).toNat) i1.1
    unfold f_X1_further_b15
    rw [Rv13 h]
    simp only [T_cLt]
    refine ⟨by omega, fun z => ?_, fun z => ?_⟩
    · refine T_lp (fun t => (0 ≤ t.2 ∧ t.2 ≤ (aV A 13 0)) ∧ t.1 = v + sm (fun j => fuF A now i j) 0 (t.2 - 0).toNat) (fun t => ((aV A 13 0) - t.2).toNat) ?_ ⟨by dsimp only; omega, by dsimp only; simp [sm]⟩
      intro ⟨u, j⟩ ⟨j1, eu⟩
      dsimp only at j1 eu
      have sj := sm_at (fun j => fuF A now i j) j1.1
      unfold f_X1_further_b26
      rw [Rv13 h]
      simp only [T_cLt]
      refine ⟨by omega, fun z1 => ?_, fun z1 => ?_⟩
      · obtain ⟨a1, a2, a3⟩ := R_q h i1.1 z
        obtain ⟨b1, b2, b3⟩ := R_q h j1.1 z1
        have y1 := yb i i1.1 z
        have y2 := yb j j1.1 z1
        have t1 := (R_qa h i1.1 z).2.2.2.2
        have t2 := (R_qa h j1.1 z1).2.2.2.2
        rw [a1, b1]
        simp only [T_ck, T_nnS, T_cO, T_bind, a3 2 (by omega), a3 7 (by omega), b3 2 (by omega), b3 7 (by omega), J3_abs (σ := σ) (by omega : inR (aQ A 2 i - now)), J3_abs (σ := σ) (by omega : inR (aQ A 2 j - now)), J5_compare (σ := σ) (by omega : inR (aQ A 7 i)) (by omega : inR (aQ A 7 j)), T_some, T_cLt, Sum.elim_inl]
        refine ⟨by omega, a2, by omega, b2, by omega, fun z2 => ⟨by omega, a2, by omega, b2, ⟨by omega, ?_⟩, by omega⟩, fun z2 => ⟨⟨by omega, ?_⟩, by omega⟩⟩
        · rw [sj, eu]; unfold fuF; rw [if_pos z2]; omega
        · rw [sj, eu]; unfold fuF; rw [if_neg z2]; omega
      · simp only [T_ex, T_some, Sum.elim_inl, Sum.elim_inr]
        refine ⟨⟨by omega, ?_⟩, by omega⟩
        rw [st, eu, ev]; congr 2; omega
    · simp only [T_some, T_none, T_ck, T_cLt, T_cEq, T_jLt, T_jEq, T_bind, T_bd2, T_wS, T_cO, T_nnS, T_cNullN, T_cNullS, T_bT1, T_bT2, T_ex, T_ite, T_dC, Sum.elim_inl, Sum.elim_inr]
      rw [ev]; congr 1; omega
  have vm : lp (fun q => f_X6_further_b19 σ o now q.1 q.2) (0, 0) = some (sm (fun a => sm (fun b => fuF A now a b + fuF A now b a) 0 a.toNat) 0 ((aV A 13 0)).toNat) := by
    refine T_eq.mp (T_lp (fun t => (0 ≤ t.2 ∧ t.2 ≤ (aV A 13 0)) ∧ t.1 = sm (fun a => sm (fun b => fuF A now a b + fuF A now b a) 0 a.toNat) 0 (t.2 - 0).toNat) (fun t => ((aV A 13 0) - t.2).toNat) ?_ ⟨by dsimp only; omega, rfl⟩)
    intro ⟨v, a⟩ ⟨a1, ev⟩
    dsimp only at a1 ev
    have st := sm_at (fun a => sm (fun b => fuF A now a b + fuF A now b a) 0 a.toNat) a1.1
    unfold f_X6_further_b19
    rw [R_nq h]
    simp only [T_cLt]
    refine ⟨by omega, fun z => ?_, fun z => ?_⟩
    · refine T_lp (fun t => (0 ≤ t.2 ∧ t.2 ≤ a) ∧ t.1 = v + sm (fun b => fuF A now a b + fuF A now b a) 0 (t.2 - 0).toNat) (fun t => (a - t.2).toNat) ?_ ⟨by dsimp only; omega, by dsimp only; simp [sm]⟩
      intro ⟨u, b⟩ ⟨b1, eu⟩
      dsimp only at b1 eu
      have sj := sm_at (fun b => fuF A now a b + fuF A now b a) b1.1
      unfold f_X6_further_b30
      simp only [T_cLt]
      refine ⟨by omega, fun z1 => ?_, fun z1 => ?_⟩
      · obtain ⟨_, _, c3, _, _, _, c7⟩ := R_mq h a1.1 z
        obtain ⟨_, _, d3, _, _, _, d7⟩ := R_mq h b1.1 (by omega : b < (aV A 13 0))
        have y1 := yb a a1.1 z
        have y2 := yb b b1.1 (by omega)
        have t1 := (R_qa h a1.1 z).2.2.2.2
        have t2 := (R_qa h b1.1 (by omega : b < (aV A 13 0))).2.2.2.2
        rw [c3, c7, d3, d7]
        simp only [T_ck, T_bind, J3_abs (σ := σ) (by omega : inR (aQ A 2 a - now)), J3_abs (σ := σ) (by omega : inR (aQ A 2 b - now)), J5_compare (σ := σ) (by omega : inR ((aQ A 2 a - now).natAbs : Int)) (by omega : inR ((aQ A 2 b - now).natAbs : Int)), J5_compare (σ := σ) (by omega : inR (aQ A 7 a)) (by omega : inR (aQ A 7 b)), T_some, Sum.elim_inl]
        refine ⟨by omega, by omega, by omega, by omega, ⟨by omega, ?_⟩, by omega⟩
        rw [sj, eu, fuG]; omega
      · simp only [T_ex, T_some, Sum.elim_inl, Sum.elim_inr]
        refine ⟨⟨by omega, ?_⟩, by omega⟩
        rw [st, eu, ev]; congr 2; omega
    · simp only [T_some, T_none, T_ck, T_cLt, T_cEq, T_jLt, T_jEq, T_bind, T_bd2, T_wS, T_cO, T_nnS, T_cNullN, T_cNullS, T_bT1, T_bT2, T_ex, T_ite, T_dC, Sum.elim_inl, Sum.elim_inr]
      rw [ev]; congr 1; omega
  have eq := dbl (fuF A now) (fun i => by unfold fuF; rw [if_neg (by omega)]) ((aV A 13 0)).toNat
  refine T_mono vx (fun r hr => ?_)
  rw [vm, hr, ← eq]
  refine ⟨rfl, ?_⟩
  have u := sm_u (fun i => sm (fun j => fuF A now i j) 0 ((aV A 13 0)).toNat) 0 60 (fun k => by
    have := sm_u (fun j => fuF A now k j) 0 1 (fun j => fuF_b.2) ((aV A 13 0)).toNat
    show sm (fun j => fuF A now k j) 0 ((aV A 13 0)).toNat ≤ 60
    omega) ((aV A 13 0)).toNat
  have l := sm_l (g := fun i => sm (fun j => fuF A now i j) 0 ((aV A 13 0)).toNat) (lo := 0) (c := 60) (fun k => by
    have := sm_l (g := fun j => fuF A now k j) (lo := 0) (c := 1) (fun j => fuF_b.1) ((aV A 13 0)).toNat
    show -60 ≤ sm (fun j => fuF A now k j) 0 ((aV A 13 0)).toNat
    omega) ((aV A 13 0)).toNat
  constructor <;> omega
end
