/-! learnt; further; events -/
set_option maxRecDepth 100000
/-- no later than the first that the one is not so with -/
def hiF (A : AS) (g s : Int) : Nat → Int
  | 0 => 1000
  | n + 1 => if soB A g ((aV A 13 0) - (n + 1)) s then hiF A g s n else aQ A 0 ((aV A 13 0) - (n + 1))
/-- no sooner than the last that the other is not so with -/
def loF (A : AS) (g s : Int) : Nat → Int
  | 0 => 0
  | n + 1 => if soB A g n s then loF A g s n else aQ A 0 n + 1
def leV (A : AS) (g g' s w : Int) : Int := if isH A g && (isH A g' && (isB s 0 999 && isB w 0 1)) then (if hiF A g s ((aV A 13 0)).toNat < loF A g' s ((aV A 13 0)).toNat then -1 else if w = 0 then loF A g' s ((aV A 13 0)).toNat else hiF A g s ((aV A 13 0)).toNat) else -1
def lbB (A : AS) (g g' s t : Int) : Bool := decide (∀ k : Nat, k < ((aV A 13 0)).toNat → (if aQ A 0 k < t then soB A g k s else soB A g' k s) = true)
section
variable {σ : St} {x o a b : Nat} {A : AS} {g g' c y m d v k s : Int} {C C' : Cal}
theorem hiF_b (h : RR x o A σ) : ∀ n : Nat, (n : Int) ≤ (aV A 13 0) → 0 ≤ hiF A g s n ∧ hiF A g s n ≤ 1000
  | 0, _ => by simp [hiF]
  | n + 1, hn => by
    have ih := hiF_b h n (by omega)
    have := (R_qa h (k := (aV A 13 0) - (n + 1)) (by omega) (by omega)).2.2.1
    unfold hiF; split <;> omega
theorem loF_b (h : RR x o A σ) : ∀ n : Nat, (n : Int) ≤ (aV A 13 0) → 0 ≤ loF A g s n ∧ loF A g s n ≤ 1000
  | 0, _ => by simp [loF]
  | n + 1, hn => by
    have ih := loF_b h n (by omega)
    have := (R_qa h (k := (n : Int)) (by omega) (by omega)).2.2.1
    unfold loF; split <;> omega
theorem hiF_i (h : RR x o A σ) {t : Int} (ht : t ≤ 1000) : ∀ n : Nat, (n : Int) ≤ (aV A 13 0) → (t ≤ hiF A g s n ↔ ∀ k : Int, (aV A 13 0) - n ≤ k → k < (aV A 13 0) → soB A g k s = false → t ≤ aQ A 0 k)
  | 0, _ => by
    constructor
    · intro _ k k1 k2; omega
    · intro _; show t ≤ 1000; exact ht
  | n + 1, hn => by
    have ih := hiF_i h ht n (by omega)
    unfold hiF
    split
    · rename_i q
      rw [ih]
      constructor
      · intro w k k1 k2 hk
        by_cases c : k = (aV A 13 0) - (n + 1)
        · rw [c, q] at hk; cases hk
        · exact w k (by omega) k2 hk
      · intro w k k1 k2 hk
        exact w k (by omega) k2 hk
    · rename_i q
      constructor
      · intro w k k1 k2 hk
        have := h.2.1.2.2.2.2.1 ((aV A 13 0) - (n + 1)) k (by omega) (by omega) k2
        omega
      · intro w
        exact w ((aV A 13 0) - (n + 1)) (by omega) (by omega) (by cases e : soB A g ((aV A 13 0) - (n + 1)) s; rfl; exact absurd e q)
theorem loF_i (h : RR x o A σ) {t : Int} (ht : 0 ≤ t) : ∀ n : Nat, (n : Int) ≤ (aV A 13 0) → (loF A g s n ≤ t ↔ ∀ k : Int, 0 ≤ k → k < n → soB A g k s = false → aQ A 0 k < t)
  | 0, _ => by
    constructor
    · intro _ k k1 k2; omega
    · intro _; show 0 ≤ t; exact ht
  | n + 1, hn => by
    have ih := loF_i h ht n (by omega)
    unfold loF
    split
    · rename_i q
      rw [ih]
      constructor
      · intro w k k1 k2 hk
        by_cases c : k = n
        · rw [c, q] at hk; cases hk
        · exact w k k1 (by omega) hk
      · intro w k k1 k2 hk
        exact w k k1 (by omega) hk
    · rename_i q
      constructor
      · intro w k k1 k2 hk
        have := h.2.1.2.2.2.2.1 k n k1 (by omega) (by omega)
        omega
      · intro w
        have := w n (by omega) (by omega) (by cases e : soB A g n s; rfl; exact absurd e q)
        omega
theorem lbB_i (h : RR x o A σ) {t : Int} (h0 : 0 ≤ t) (h1 : t ≤ 1000) : lbB A g g' s t = true ↔ loF A g' s ((aV A 13 0)).toNat ≤ t ∧ t ≤ hiF A g s ((aV A 13 0)).toNat := by
  have n := R_n h
  have e : (((aV A 13 0)).toNat : Int) = (aV A 13 0) := by omega
  rw [loF_i h h0 _ (by omega), hiF_i h h1 _ (by omega), e]
  unfold lbB
  rw [decide_eq_true_iff]
  constructor
  · intro w
    refine ⟨fun k k1 k2 hk => ?_, fun k k1 k2 hk => ?_⟩
    · have := w k.toNat (by omega)
      rw [show ((k.toNat : Nat) : Int) = k by omega] at this
      by_cases c : aQ A 0 k < t
      · exact c
      · rw [if_neg c, hk] at this; cases this
    · have := w k.toNat (by omega)
      rw [show ((k.toNat : Nat) : Int) = k by omega] at this
      by_cases c : aQ A 0 k < t
      · rw [if_pos c, hk] at this; cases this
      · omega
  · intro ⟨w1, w2⟩ k hk
    by_cases c : aQ A 0 k < t
    · rw [if_pos c]
      cases e : soB A g k s with
      | true => rfl
      | false => have := w2 k (by omega) (by omega) e; omega
    · rw [if_neg c]
      cases e : soB A g' k s with
      | true => rfl
      | false => exact absurd (w1 k (by omega) (by omega) e) c
theorem X1_isLearnt {t : Int} (h : RR x o A σ) (g1 : 0 ≤ g) (g2 : g < (aV A 7 0)) (p1 : 0 ≤ g') (p2 : g' < (aV A 7 0)) (hs : inR s) (ht : inR t) : T (f_X1_isLearnt σ x (aHa A g) (aHa A g') s t) (fun r => r.1 = bI (lbB A g g' s t) ∧ RR x o A r.2) := by
  have n := R_n h
  unfold f_X1_isLearnt
  rw [cO_t (R_x h)]
  refine T_lp (fun q => (0 ≤ q.1 ∧ q.1 ≤ (aV A 13 0)) ∧ (∀ k : Nat, (k : Int) < q.1 → (if aQ A 0 k < t then soB A g k s else soB A g' k s) = true) ∧ RR x o A q.2) (fun q => ((aV A 13 0) - q.1).toNat) ?_ ⟨by dsimp only; omega, fun k hk => by dsimp only at hk; omega, h⟩
  intro ⟨k, σ1⟩ ⟨k1, e, h⟩
  dsimp only at k1 e h
  unfold f_X1_isLearnt_b3
  simp only [T_cO, T_cLt, Rv0 h, Rv1 h, Rv6 h, Rv7 h, Rv9 h, Rv10 h, Rv13 h, Rv14 h, Rv15 h, Rv16 h, Rv17 h, Rv18 h, Rv19 h, Rv20 h, Rv23 h, Rv24 h, Rv25 h, Rv26 h, Rv27 h]
  refine ⟨R_x h, by omega, fun q => ?_, fun q => ?_⟩
  · obtain ⟨q1, q2, q3⟩ := R_q h k1.1 q
    obtain ⟨r0, r1, r2, r3, r4⟩ := R_qa h k1.1 q
    rw [q1]
    have go : ∀ u, 0 ≤ u → u < (aV A 7 0) → (if aQ A 0 k < t then soB A g k s else soB A g' k s) = soB A u k s → T (f_X1_isLearnt_j33 x (aHa A g) (aHa A g') s t k (aHa A u) x σ1) (Sum.elim (fun s' => ((0 ≤ s'.1 ∧ s'.1 ≤ (aV A 13 0)) ∧ (∀ k : Nat, (k : Int) < s'.1 → (if aQ A 0 k < t then soB A g k s else soB A g' k s) = true) ∧ RR x o A s'.2) ∧ ((aV A 13 0) - s'.1).toNat < ((aV A 13 0) - k).toNat) (fun r => r.1 = bI (lbB A g g' s t) ∧ RR x o A r.2)) := by
      intro u u1 u2 eu
      unfold f_X1_isLearnt_j33
      rw [q1]
      simp only [T_cO, T_ck, T_nnS, T_bd2]
      refine ⟨R_x h, by omega, R_x h, T_mono (X1_isSo h u1 u2 k1.1 q hs) (fun r ⟨e1, h1⟩ => ?_)⟩
      rw [e1]
      simp only [T_cEq, bI_R, true_and, bI_0, Bool.not_eq_false, T_ex, T_some, Sum.elim_inl, Sum.elim_inr]
      refine ⟨fun z => ⟨?_, h1⟩, fun z => ⟨⟨by omega, fun j hj => ?_, h1⟩, by omega⟩⟩
      · have : lbB A g g' s t = false := by
          unfold lbB
          rw [decide_eq_false]
          intro w
          have := w k.toNat (by omega)
          rw [show ((k.toNat : Nat) : Int) = k by omega, eu, z] at this
          cases this
        rw [this]; rfl
      · by_cases c : (j : Int) = k
        · rw [c, eu]; exact z
        · exact e j (by omega)
    simp only [T_ck, T_nnS, T_cO, T_cLt, q3 0 (show 0 < 8 by omega)]
    refine ⟨by omega, q2, by omega, fun z => go g g1 g2 (by rw [if_pos z]), fun z => go g' p1 p2 (by rw [if_neg z])⟩
  · simp only [T_some, T_none, T_ck, T_cLt, T_cEq, T_jLt, T_jEq, T_bind, T_bd2, T_wS, T_cO, T_nnS, T_cNullN, T_cNullS, T_bT1, T_bT2, T_ex, T_ite, T_dC, Sum.elim_inl, Sum.elim_inr]
    refine ⟨?_, h⟩
    have : lbB A g g' s t = true := by
      unfold lbB
      rw [decide_eq_true_iff]
      intro j hj
      exact e j (by omega)
    rw [this]; rfl
theorem O_learntX {w : Int} (h : RR x o A σ) (hg : inR g) (hg' : inR g') (hs : inR s) (hw : inR w) : T (f_X1_learnt σ x g g' s w) (fun r => r.1 = leV A g g' s w ∧ RR x o A r.2) := by
  have n := R_n h
  unfold f_X1_learnt leV
  rw [cO_t (R_x h)]
  simp only [T_bind, T_some, T_cEq, bI_R, true_and, bI_0, Bool.not_eq_false, X1_isHead h hg, X1_isHead h hg', X1_isSlack hs, T_ck, X1_isB (by omega : inL w) (by omega : inL 0) (by omega : inL 1)]
  refine ⟨fun e => ⟨by rw [e]; rfl, h⟩, fun e => ⟨fun e1 => ⟨by rw [e1]; simp, h⟩, fun e1 => ⟨fun e2 => ⟨by rw [e2]; simp, h⟩, fun e2 => ⟨hw, fun e3 => ⟨by rw [e3]; simp, h⟩, fun e3 => ?_⟩⟩⟩⟩
  rw [e, e1, e2, e3]
  simp only [Bool.and_self, if_true]
  have q1 := isH_t.mp e
  have q2 := isH_t.mp e1
  have wb := isB_t.mp e3
  have hb := hiF_b h (g := g) (s := s) ((aV A 13 0)).toNat (by omega)
  have lb := loF_b h (g := g') (s := s) ((aV A 13 0)).toNat (by omega)
  generalize hHi : hiF A g s ((aV A 13 0)).toNat = hi at hb ⊢
  generalize hLo : loF A g' s ((aV A 13 0)).toNat = lo at lb ⊢
  refine T_lp (fun t => (0 ≤ t.2.1 ∧ t.2.1 ≤ 1001) ∧ ((w = 1 ∧ t.1 = (if lo ≤ hi ∧ lo < t.2.1 then (if hi < t.2.1 then hi else t.2.1 - 1) else -1)) ∨ (w = 0 ∧ t.1 = (if lo ≤ hi ∧ lo < t.2.1 then lo else -1))) ∧ RR x o A t.2.2) (fun t => (1001 - t.2.1).toNat) ?_ ⟨by dsimp only; omega, ?_, h⟩
  · intro ⟨f, t, σ1⟩ ⟨t1, ef, h⟩
    dsimp only at t1 ef h
    have fr : -1 ≤ f ∧ f ≤ 1000 := by
      rcases ef with ⟨_, ef⟩ | ⟨_, ef⟩
      · rw [ef]; split
        · split <;> omega
        · omega
      · rw [ef]; split <;> omega
    have go : t ≤ 1000 → (w = 1 ∨ f = -1) → T (f_X1_learnt_j62 x g g' s w f t σ1) (Sum.elim (fun s' => ((0 ≤ s'.2.1 ∧ s'.2.1 ≤ 1001) ∧ ((w = 1 ∧ s'.1 = (if lo ≤ hi ∧ lo < s'.2.1 then (if hi < s'.2.1 then hi else s'.2.1 - 1) else -1)) ∨ (w = 0 ∧ s'.1 = (if lo ≤ hi ∧ lo < s'.2.1 then lo else -1))) ∧ RR x o A s'.2.2) ∧ (1001 - s'.2.1).toNat < (1001 - t).toNat) (fun r => r.1 = (if hi < lo then -1 else if w = 0 then lo else hi) ∧ RR x o A r.2)) := by
      intro ht hf
      unfold f_X1_learnt_j62
      rw [(R_head h q1.1 q1.2).1, (R_head h q2.1 q2.2).1]
      simp only [T_cO, T_ck, T_nnS, T_bd2]
      refine ⟨R_x h, by omega, by omega, T_mono (X1_isLearnt h q1.1 q1.2 q2.1 q2.2 hs (by omega)) (fun r ⟨e1, h1⟩ => ?_)⟩
      have li := lbB_i h1 (g := g) (g' := g') (s := s) t1.1 ht
      rw [hHi, hLo] at li
      rw [e1]
      simp only [T_cEq, bI_R, true_and, bI_0, Bool.not_eq_false, T_some, Sum.elim_inl]
      refine ⟨fun z => ⟨⟨by omega, ?_, h1⟩, by omega⟩, fun z => ⟨⟨by omega, ?_, h1⟩, by omega⟩⟩
      · have nl : ¬ (lo ≤ t ∧ t ≤ hi) := fun q => by rw [li.mpr q] at z; cases z
        rcases ef with ⟨w1, ef⟩ | ⟨w0, ef⟩
        · left; refine ⟨w1, ?_⟩; rw [ef]
          by_cases c : lo ≤ hi ∧ lo < t
          · rw [if_pos c, if_pos (by omega), if_pos (by omega), if_pos (by omega)]
          · rw [if_neg c, if_neg (by omega)]
        · right; refine ⟨w0, ?_⟩; rw [ef]
          by_cases c : lo ≤ hi ∧ lo < t
          · rw [if_pos c, if_pos (by omega)]
          · rw [if_neg c, if_neg (by omega)]
      · have nl := li.mp z
        rcases ef with ⟨w1, ef⟩ | ⟨w0, ef⟩
        · left; refine ⟨w1, ?_⟩
          rw [if_pos (by omega)]
          split <;> omega
        · right; refine ⟨w0, ?_⟩
          rw [if_pos (by omega)]
          by_cases c : lo ≤ hi ∧ lo < t
          · rw [if_pos c] at ef; omega
          · omega
    unfold f_X1_learnt_b42
    simp only [T_cLt, T_cEq]
    refine ⟨by omega, fun z => ?_, fun z => ⟨by omega, fun z1 => go (by omega) (Or.inl z1), fun z1 => ⟨by omega, fun z2 => go (by omega) (Or.inr z2), fun z2 => ?_⟩⟩⟩
    · simp only [T_some, T_none, T_ck, T_cLt, T_cEq, T_jLt, T_jEq, T_bind, T_bd2, T_wS, T_cO, T_nnS, T_cNullN, T_cNullS, T_bT1, T_bT2, T_ex, T_ite, T_dC, Sum.elim_inl, Sum.elim_inr]
      refine ⟨?_, h⟩
      rcases ef with ⟨w1, ef⟩ | ⟨w0, ef⟩
      · rw [ef]
        by_cases c : lo ≤ hi
        · rw [if_pos (by omega), if_pos (by omega), if_neg (by omega), if_neg (by omega)]
        · rw [if_neg (by omega), if_pos (by omega)]
      · rw [ef]
        by_cases c : lo ≤ hi
        · rw [if_pos (by omega), if_neg (by omega), if_pos w0]
        · rw [if_neg (by omega), if_pos (by omega)]
    · simp only [T_some, T_none, T_ck, T_cLt, T_cEq, T_jLt, T_jEq, T_bind, T_bd2, T_wS, T_cO, T_nnS, T_cNullN, T_cNullS, T_bT1, T_bT2, T_ex, T_ite, T_dC, Sum.elim_inl, Sum.elim_inr]
      refine ⟨?_, h⟩
      rcases ef with ⟨w1, ef⟩ | ⟨w0, ef⟩
      · omega
      · by_cases c : lo ≤ hi ∧ lo < t
        · rw [ef, if_pos c, if_neg (by omega), if_pos w0]
        · rw [if_neg c] at ef; exact absurd ef z2
  · dsimp only
    by_cases c : w = 1
    · left; refine ⟨c, ?_⟩; rw [if_neg (by omega)]
    · right; refine ⟨by omega, ?_⟩; rw [if_neg (by omega)]
theorem O_learntM {w : Int} (h : RR x o A σ) (hg : inR g) (hg' : inR g') (hs : inR s) (hw : inR w) : T (f_X6_learnt σ o g g' s w) (fun r => r.1 = leV A g g' s w ∧ RR x o A r.2) := by
  have n := R_n h
  unfold f_X6_learnt leV
  rw [cO_t (R_o h)]
  simp only [T_bind, T_some, T_cEq, bI_R, true_and, bI_0, Bool.not_eq_false, X6_isHead h hg, X6_isHead h hg', X6_isSlack hs, X6_isB hw (by omega : inR 0) (by omega : inR 1)]
  refine ⟨fun e => ⟨by rw [e]; rfl, h⟩, fun e => ⟨fun e1 => ⟨by rw [e1]; simp, h⟩, fun e1 => ⟨fun e2 => ⟨by rw [e2]; simp, h⟩, fun e2 => ⟨fun e3 => ⟨by rw [e3]; simp, h⟩, fun e3 => ?_⟩⟩⟩⟩
  rw [e, e1, e2, e3]
  simp only [Bool.and_self, if_true]
  have q1 := isH_t.mp e
  have q2 := isH_t.mp e1
  have wb := isB_t.mp e3
  have lb := loF_b h (g := g') (s := s) ((aV A 13 0)).toNat (by omega)
  have hb := hiF_b h (g := g) (s := s) ((aV A 13 0)).toNat (by omega)
  rw [R_nq h]
  refine T_lp (fun t => (-1 ≤ t.2.1 ∧ t.2.1 < (aV A 13 0)) ∧ t.1 = hiF A g s ((aV A 13 0) - 1 - t.2.1).toNat ∧ RR x o A t.2.2) (fun t => (t.2.1 + 1).toNat) ?_ ⟨by dsimp only; omega, by dsimp only; rw [show ((aV A 13 0) - 1 - ((aV A 13 0) - 1)).toNat = 0 by omega]; rfl, h⟩
  intro ⟨v, k, σ1⟩ ⟨k1, ev, h⟩
  dsimp only at k1 ev h
  unfold f_X6_learnt_b52
  simp only [T_cLt]
  refine ⟨by omega, fun z => ?_, fun z => ?_⟩
  · have eh : v = hiF A g s ((aV A 13 0)).toNat := by rw [ev]; congr 1; omega
    rw [← eh] at hb ⊢
    simp only [T_ex]
    refine T_lp (fun t => (0 ≤ t.2.1 ∧ t.2.1 ≤ (aV A 13 0)) ∧ t.1 = loF A g' s t.2.1.toNat ∧ RR x o A t.2.2) (fun t => ((aV A 13 0) - t.2.1).toNat) ?_ ⟨by dsimp only; omega, rfl, h⟩
    intro ⟨u, j, σ2⟩ ⟨j1, eu, h⟩
    dsimp only at j1 eu h
    unfold f_X6_learnt_b91
    rw [R_nq h]
    simp only [T_cO, T_cLt]
    refine ⟨R_o h, by omega, fun q => ?_, fun q => ?_⟩
    · simp only [T_bd2]
      refine T_mono (X6_isSo h q2.1 q2.2 j1.1 q hs) (fun r ⟨e4, h1⟩ => ?_)
      have st : loF A g' s (j + 1).toNat = if soB A g' j s then loF A g' s j.toNat else aQ A 0 j + 1 := by
        rw [show (j + 1).toNat = j.toNat + 1 by omega]
        show (if soB A g' (j.toNat : Int) s then _ else aQ A 0 (j.toNat : Int) + 1) = _
        rw [show ((j.toNat : Nat) : Int) = j by omega]
      rw [e4]
      simp only [T_cEq, bI_R, true_and, bI_0, Bool.not_eq_false, T_some, Sum.elim_inl, T_cO, T_ck]
      refine ⟨fun z => ⟨R_o h1, by omega, ⟨by omega, ?_, h1⟩, by omega⟩, fun z => ⟨⟨by omega, ?_, h1⟩, by omega⟩⟩
      · rw [st, z, (R_mq h1 j1.1 q).1]; rfl
      · rw [st, z, eu]; rfl
    · have el : u = loF A g' s ((aV A 13 0)).toNat := by rw [eu]; congr 1; omega
      rw [← el] at lb ⊢
      simp only [T_some, T_none, T_ck, T_cLt, T_cEq, T_jLt, T_jEq, T_bind, T_bd2, T_wS, T_cO, T_nnS, T_cNullN, T_cNullS, T_bT1, T_bT2, T_ex, T_ite, T_dC, Sum.elim_inl, Sum.elim_inr]
      refine ⟨by omega, fun z => ⟨by rw [if_pos z], h⟩, fun z => ⟨by omega, fun z1 => ⟨by rw [if_neg z, if_pos z1], h⟩, fun z1 => ⟨by rw [if_neg z, if_neg z1], h⟩⟩⟩
  · simp only [T_cO, T_bd2]
    refine ⟨R_o h, T_mono (X6_isSo h q1.1 q1.2 (by omega) k1.2 hs) (fun r ⟨e4, h1⟩ => ?_)⟩
    have st : hiF A g s ((aV A 13 0) - 1 - (k + -1)).toNat = if soB A g k s then hiF A g s ((aV A 13 0) - 1 - k).toNat else aQ A 0 k := by
      rw [show ((aV A 13 0) - 1 - (k + -1)).toNat = ((aV A 13 0) - 1 - k).toNat + 1 by omega]
      show (if soB A g ((aV A 13 0) - ((((aV A 13 0) - 1 - k).toNat : Nat) + 1)) s then _ else aQ A 0 ((aV A 13 0) - ((((aV A 13 0) - 1 - k).toNat : Nat) + 1))) = _
      rw [show (aV A 13 0) - (((((aV A 13 0) - 1 - k).toNat : Nat) : Int) + 1) = k by omega]
    rw [e4]
    simp only [T_cEq, bI_R, true_and, bI_0, Bool.not_eq_false, T_some, Sum.elim_inl, T_cO, T_ck]
    refine ⟨fun z => ⟨R_o h1, by omega, ⟨by omega, ?_, h1⟩, by omega⟩, fun z => ⟨⟨by omega, ?_, h1⟩, by omega⟩⟩
    · rw [st, z, (R_mq h1 (by omega) k1.2).1]; rfl
    · rw [st, z, ev]; rfl
theorem leV_R {w : Int} (h : RR x o A σ) : inR (leV A g g' s w) := by
  have n := R_n h
  have lb := loF_b h (g := g') (s := s) ((aV A 13 0)).toNat (by omega)
  have hb := hiF_b h (g := g) (s := s) ((aV A 13 0)).toNat (by omega)
  unfold leV
  split
  · split
    · omega
    · split <;> constructor <;> omega
  · omega
end
